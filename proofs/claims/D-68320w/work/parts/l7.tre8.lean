/-! trees: the component's rows of bytes -/
set_option maxRecDepth 100000
/-- how a byte stands in a row -/
def sb8 (x : Nat) : Int32 := (nI x).toInt8.toInt32
theorem sb8_d (x : Int32) : x.toInt8.toInt32.toInt8.toInt32 = sb8 (ui x % 256) ∧ x.toInt8.toInt32 = sb8 (ui x % 256) := by
  have e : x.toInt8 = (nI (ui x % 256)).toInt8 := by
    apply Int8.toBitVec_inj.mp
    show x.toBitVec.signExtend 8 = (nI (ui x % 256)).toBitVec.signExtend 8
    rw [BitVec.signExtend_eq_setWidth_of_le _ (by decide), BitVec.signExtend_eq_setWidth_of_le _ (by decide)]
    apply BitVec.eq_of_toNat_eq
    rw [BitVec.toNat_setWidth, BitVec.toNat_setWidth]
    show ui x % 256 = ui (nI (ui x % 256)) % 256
    rw [ui_nI]
    omega
  unfold sb8
  rw [e]
  have : ∀ x : Nat, x < 256 → (nI x).toInt8.toInt32.toInt8.toInt32 = (nI x).toInt8.toInt32 := by decide
  exact ⟨this _ (Nat.mod_lt _ (by decide)), rfl⟩
theorem sb8_and {x : Nat} (h : x < 256) : sb8 x &&& Int32.ofInt 255 = nI x := by
  have : ∀ x : Nat, x < 256 → sb8 x &&& Int32.ofInt 255 = nI x := by decide
  exact this x h
theorem sb8_e {x y : Nat} (hx : x < 256) (hy : y < 256) : (sb8 x = sb8 y) = (x = y) := propext ⟨fun h => by
  have h1 := sb8_and hx
  rw [h, sb8_and hy, nI_e (by omega) (by omega)] at h1
  exact h1.symm, fun h => by rw [h]⟩
/-- a row: its bytes -/
def RwB (r room : Nat) (M : FM) (S : List Nat) : Prop := fm_is M 86 86 r = true ∧ M.2.2 1 (M.2.2 261 r 0) 0 = room ∧ M.1 262 r 0 = nI S.length ∧ (∀ k, k < S.length → M.1 3 (M.2.2 261 r 0) k = sb8 (S.getD k 0)) ∧ ∀ x, x ∈ S → x < 256
def PRo (r : Nat) (M : FM) (f b : Nat) : Prop := (f = 262 ∧ b = r) ∨ (f = 3 ∧ b = M.2.2 261 r 0)
theorem pro_w {r : Nat} {M N : FM} (h : N.2.2 = M.2.2) (f b : Nat) (k : PRo r N f b) : PRo r M f b := by
  unfold PRo at *
  rw [h] at k
  exact k
theorem pro_t {r : Nat} {M N X : FM} (h : Frm (PRo r M) M N) (k : Frm (PRo r N) N X) : Frm (PRo r M) M X := frm_t h (frm_w k (pro_w h.1))
theorem pro_y {r : Nat} {M N : FM} (h : Frm (PRo r M) M N) (n : fm_is M 86 86 r = true) (T : Ty M) : Ty N := by
  refine frm_ty h (fun f b q => ?_) T
  rcases q with ⟨q, _⟩ | ⟨q1, q⟩
  · left
    rw [q]
    rfl
  · right
    refine ⟨q1, fun z => ?_⟩
    have z1 := fm_isd z
    have := fm_isd (tN_261 T.1 n)
    rw [← q] at this
    omega
section Ro
variable {r s room : Nat} {M N : FM} {S X : List Nat} {v : Int32}
/-- another row stays -/
theorem rwB_o {o roomo : Nat} {Y : List Nat} (h : RwB o roomo M Y) (f : Frm (PRo r M) M N) (h1 : o ≠ r) (h2 : M.2.2 261 o 0 ≠ M.2.2 261 r 0) : RwB o roomo N Y := by
  obtain ⟨a1, a2, a3, a4, a5⟩ := h
  refine ⟨frm_is f a1, by rw [f.1]; exact a2, ?_, fun k hk => ?_, a5⟩
  · rw [(f.2 262 o 0 (fun z => ?_)).1]
    · exact a3
    · rcases z with z | z
      · exact h1 z.2
      · exact absurd z.1 (by decide)
  · rw [f.1, (f.2 3 _ k (fun z => ?_)).1]
    · exact a4 k hk
    · rcases z with z | z
      · exact absurd z.1 (by decide)
      · exact h2 z.2
theorem rwB_1 {x : Nat} (h : RwB r room M S) (hx : x < 256) : RwB r room (fm_sI (fm_sI M 262 r 0 (nI (S.length + 1))) 3 (M.2.2 261 r 0) S.length (sb8 x)) (S ++ [x]) := by
  obtain ⟨a1, a2, a3, a4, a5⟩ := h
  refine ⟨a1, a2, ?_, fun k hk => ?_, fun y hy => ?_⟩
  · rw [len_a]
    exact (oI (fun z => absurd z.1 (by decide))).trans (if_pos ⟨rfl, rfl, rfl⟩)
  · rw [len_a] at hk
    show (fm_sI (fm_sI M 262 r 0 (nI (S.length + 1))) 3 (M.2.2 261 r 0) S.length (sb8 x)).1 3 (M.2.2 261 r 0) k = _
    rw [rI]
    by_cases e : k = S.length
    · rw [if_pos ⟨rfl, rfl, e⟩, e, gD_e]
    · rw [if_neg (fun q => e q.2.2), gD_a (by omega)]
      exact (oI (fun z => absurd z.1 (by decide))).trans (a4 k (by omega))
  · rcases List.mem_append.mp hy with hy | hy
    · exact a5 y hy
    · rcases List.mem_cons.mp hy with rfl | hy
      · exact hx
      · cases hy
theorem X3_add (h : RwB r room M S) (hl : S.length < room) (hr : room ≤ 65536) (v : Int32) : HX3_add r v M ∧ ∃ N, GX3_add r v M = N ∧ Frm (PRo r M) M N ∧ RwB r room N (S ++ [ui v % 256]) := by
  have h0 := h
  obtain ⟨a1, a2, a3, a4, a5⟩ := h
  have s1 := rwB_1 h0 (x := ui v % 256) (Nat.mod_lt _ (by decide))
  unfold HX3_add HX3_add_0 GX3_add GX3_add_0
  dsimp only
  rw [a3, up_b (by omega), o_cl (by omega), (sb8_d v).1]
  exact ⟨⟨in_nI (N := room) a2 hl (by omega), trivial⟩, _, rfl, frm_I (frm_I frm_r (Or.inl ⟨rfl, rfl⟩)) (Or.inr ⟨rfl, rfl⟩), s1⟩
/-- a number of four bytes -/
theorem sh_n {v j : Nat} (hv : v < 4294967296) (hj : j < 4) : ui (nI v >>> (nI (8 * j) &&& 31)) % 256 = b8 v j := by
  have e : ui (nI (8 * j)) % 32 = 8 * j := by rw [ui_nI]; omega
  unfold b8
  have hj4 : j = 0 ∨ j = 1 ∨ j = 2 ∨ j = 3 := by omega
  by_cases h : v < 2147483648
  · rw [ui_sar0 _ _ (by rw [ui_nI]; omega), e, ui_nI, Nat.mod_eq_of_lt hv]
  · rw [ui_sar1 _ _ (by rw [ui_nI]; omega), e, ui_nI, Nat.mod_eq_of_lt hv]
    rcases hj4 with rfl | rfl | rfl | rfl
    · rw [show (2 : Nat) ^ (8 * 0) = 1 from rfl]; omega
    · rw [show (2 : Nat) ^ (8 * 1) = 256 from rfl]; omega
    · rw [show (2 : Nat) ^ (8 * 2) = 65536 from rfl]; omega
    · rw [show (2 : Nat) ^ (8 * 3) = 16777216 from rfl]; omega
theorem X3_addNumber_L {v : Nat} (hv : v < 4294967296) (hr : room ≤ 65536) : ∀ m j M S, m ≤ 4 → m < j → Ty M → RwB r room M S → S.length + m ≤ room → ∃ N, FX3_addNumber_L3 fN j r (nI v) (nI (8 * m) + Int32.ofInt (-8)) M = some N ∧ Frm (PRo r M) M N ∧ Ty N ∧ RwB r room N (S ++ ((be4 v).drop (4 - m))) := by
  intro m
  induction m with
  | zero =>
    intro j M S hm hj T h hl
    obtain ⟨j, rfl⟩ : ∃ y, j = y + 1 := ⟨j - 1, by omega⟩
    have c1 : nI (8 * 0) + Int32.ofInt (-8) < 0 := by decide
    refine ⟨M, ?_, frm_r, T, by rw [show (be4 v).drop (4 - 0) = [] from rfl, List.append_nil]; exact h⟩
    show FX3_addNumber_3 fN (FX3_addNumber_L3 fN j) r (nI v) (nI (8 * 0) + Int32.ofInt (-8)) M = _
    rw [(gX3_addNumber_3 (FX3_addNumber_L3 fN j) r (nI v) (nI (8 * 0) + Int32.ofInt (-8)) M T h.1 ⟨fun _ => trivial, fun q => absurd c1 q⟩).1]
    unfold GX3_addNumber_3
    rw [fi_pos c1]
    rfl
  | succ m ih =>
    intro j M S hm hj T h hl
    obtain ⟨j, rfl⟩ : ∃ y, j = y + 1 := ⟨j - 1, by omega⟩
    have e1 : nI (8 * (m + 1)) + Int32.ofInt (-8) = nI (8 * m) := ui_inj (by rw [ui_add, ui_nI, ui_nI, show ui (Int32.ofInt (-8)) = 4294967288 by decide]; omega)
    have c1 : ¬ nI (8 * m) < 0 := dn_n (by omega)
    obtain ⟨p1, N, p2, p3, p4⟩ := X3_add h (by omega) hr (nI v >>> (nI (8 * m) &&& 31))
    rw [sh_n hv (by omega)] at p4
    have T1 := pro_y p3 h.1 T
    obtain ⟨X, q1, q2, q3, q4⟩ := ih j N _ (by omega) (by omega) T1 p4 (by rw [len_a]; omega)
    refine ⟨X, ?_, pro_t p3 q2, q3, ?_⟩
    · rw [e1]
      show FX3_addNumber_3 fN (FX3_addNumber_L3 fN j) r (nI v) (nI (8 * m)) M = _
      rw [(gX3_addNumber_3 (FX3_addNumber_L3 fN j) r (nI v) (nI (8 * m)) M T h.1 ⟨fun q => absurd q c1, fun _ => ⟨p1, trivial⟩⟩).1]
      unfold GX3_addNumber_3
      rw [fi_neg c1, p2]
      exact q1
    · rw [List.append_assoc] at q4
      have e2 : [b8 v m] ++ (be4 v).drop (4 - m) = (be4 v).drop (4 - (m + 1)) := by
        have : m = 0 ∨ m = 1 ∨ m = 2 ∨ m = 3 := by omega
        rcases this with rfl | rfl | rfl | rfl <;> rfl
      rw [e2] at q4
      exact q4
theorem X3_addNumber {v : Nat} (T : Ty M) (hv : v < 4294967296) (hr : room ≤ 65536) (h : RwB r room M S) (hl : S.length + 4 ≤ room) : HX3_addNumber r (nI v) M ∧ ∃ N, GX3_addNumber r (nI v) M = N ∧ Frm (PRo r M) M N ∧ Ty N ∧ RwB r room N (S ++ be4 v) := by
  obtain ⟨N, q1, q2, q3, q4⟩ := X3_addNumber_L (r := r) hv hr 4 fN M S (Nat.le_refl _) (by unfold fN; decide) T h hl
  have Ax : FX3_addNumber fN r (nI v) M = some N := by
    show FX3_addNumber_0 fN (FX3_addNumber_L3 fN fN) r (nI v) M = _
    rw [(gX3_addNumber_0 (FX3_addNumber_L3 fN fN) r (nI v) M T).1]
    exact q1
  obtain ⟨h1, g1⟩ := op_of (d := M) Ax (P := OkV M) ⟨q3, frm_ext q2⟩
  exact ⟨h1, N, g1, q2, q3, q4⟩
theorem X3_fillUp_L (hr : room ≤ 65536) : ∀ m j M S, m = (4 - S.length % 4) % 4 → m < j → Ty M → RwB r room M S → S.length + m ≤ room → ∃ N, FX3_fillUp_L0 fN j r M = some N ∧ Frm (PRo r M) M N ∧ Ty N ∧ RwB r room N (padL S) := by
  intro m
  induction m with
  | zero =>
    intro j M S hm hj T h hl
    obtain ⟨j, rfl⟩ : ∃ y, j = y + 1 := ⟨j - 1, by omega⟩
    have c1 : M.1 262 r 0 &&& Int32.ofInt 3 = 0 := ui_inj (by
      rw [h.2.2.1, ui_and, ui_nI, show ui (Int32.ofInt 3) = 2 ^ 2 - 1 from rfl, Nat.and_two_pow_sub_one_eq_mod, show ui (0 : Int32) = 0 by decide]
      omega)
    have ep : padL S = S := by
      unfold padL
      rw [← hm]
      exact List.append_nil _
    refine ⟨M, ?_, frm_r, T, by rw [ep]; exact h⟩
    show FX3_fillUp_0 fN (FX3_fillUp_L0 fN j) r M = _
    rw [(gX3_fillUp_0 (FX3_fillUp_L0 fN j) r M T h.1 ⟨fun _ => trivial, fun q => absurd c1 q⟩).1]
    unfold GX3_fillUp_0
    rw [fi_pos c1]
    rfl
  | succ m ih =>
    intro j M S hm hj T h hl
    obtain ⟨j, rfl⟩ : ∃ y, j = y + 1 := ⟨j - 1, by omega⟩
    have c1 : ¬ M.1 262 r 0 &&& Int32.ofInt 3 = 0 := fun z => by
      have := congrArg ui z
      rw [h.2.2.1, ui_and, ui_nI, show ui (Int32.ofInt 3) = 2 ^ 2 - 1 from rfl, Nat.and_two_pow_sub_one_eq_mod, show ui (0 : Int32) = 0 by decide] at this
      omega
    obtain ⟨p1, N, p2, p3, p4⟩ := X3_add h (by omega) hr (Int32.ofInt 0)
    have p4 : RwB r room N (S ++ [0]) := p4
    have T1 := pro_y p3 h.1 T
    obtain ⟨X, q1, q2, q3, q4⟩ := ih j N _ (by rw [len_a]; omega) (by omega) T1 p4 (by rw [len_a]; omega)
    refine ⟨X, ?_, pro_t p3 q2, q3, ?_⟩
    · show FX3_fillUp_0 fN (FX3_fillUp_L0 fN j) r M = _
      rw [(gX3_fillUp_0 (FX3_fillUp_L0 fN j) r M T h.1 ⟨fun q => absurd q c1, fun _ => ⟨p1, trivial⟩⟩).1]
      unfold GX3_fillUp_0
      rw [fi_neg c1, p2]
      exact q1
    · have ep : padL (S ++ [0]) = padL S := by
        unfold padL
        rw [len_a, List.append_assoc]
        congr 1
        rw [← hm, show (4 - (S.length + 1) % 4) % 4 = m by omega]
        rfl
      rw [ep] at q4
      exact q4
theorem X3_fillUp (T : Ty M) (hr : room ≤ 65536) (h : RwB r room M S) (hl : S.length + 4 ≤ room) : HX3_fillUp r M ∧ ∃ N, GX3_fillUp r M = N ∧ Frm (PRo r M) M N ∧ Ty N ∧ RwB r room N (padL S) := by
  obtain ⟨N, q1, q2, q3, q4⟩ := X3_fillUp_L (r := r) hr ((4 - S.length % 4) % 4) fN M S rfl (by unfold fN; omega) T h (by omega)
  obtain ⟨h1, g1⟩ := op_of (d := M) (show FX3_fillUp fN r M = some N from q1) (P := OkV M) ⟨q3, frm_ext q2⟩
  exact ⟨h1, N, g1, q2, q3, q4⟩
/-- bytes of another row are put behind -/
theorem X3_addAll {roomo from_ many : Nat} {Y : List Nat} (T : Ty M) (h : RwB r room M S) (ho : RwB s roomo M Y) (hne : M.2.2 261 s 0 ≠ M.2.2 261 r 0) (hf : from_ + many ≤ Y.length ∨ (many = 0 ∧ from_ ≤ roomo)) (hy : Y.length ≤ roomo) (hl : S.length + many ≤ room) (hr : room ≤ 65536) (hro : roomo ≤ 65536) :
    HX3_addAll r s (nI from_) (nI many) M ∧ ∃ N, GX3_addAll r s (nI from_) (nI many) M = N ∧ Frm (PRo r M) M N ∧ Ty N ∧ RwB r room N (S ++ (Y.drop from_).take many) := by
  obtain ⟨a1, a2, a3, a4, a5⟩ := h
  obtain ⟨b1, b2, b3, b4, b5⟩ := ho
  have n1 := tN_261 T.1 a1
  have n2 := tN_261 T.1 b1
  have cf : (nI from_).toNatClampNeg = from_ := o_cl (by omega)
  have cm : (nI many).toNatClampNeg = many := o_cl (by omega)
  have cs : (nI S.length).toNatClampNeg = S.length := o_cl (by omega)
  have k1 : ¬ nI from_ < 0 ∧ ¬ nI S.length < 0 ∧ ¬ nI many < 0 ∧ (nI from_).toNatClampNeg + (nI many).toNatClampNeg ≤ M.2.2 1 (M.2.2 261 s 0) 0 ∧ (nI S.length).toNatClampNeg + (nI many).toNatClampNeg ≤ M.2.2 1 (M.2.2 261 r 0) 0 := by
    rw [cf, cm, cs, a2, b2]
    exact ⟨dn_n (by omega), dn_n (by omega), dn_n (by omega), by omega, hl⟩
  have E : Fh_copy (M.2.2 261 s 0) (nI from_) (M.2.2 261 r 0) (nI S.length) (nI many) M = some (fun f a i => if f = 3 ∧ a = M.2.2 261 r 0 ∧ S.length ≤ i ∧ i < S.length + many then M.1 3 (M.2.2 261 s 0) (from_ + (i - S.length)) else M.1 f a i, M.2.1, M.2.2) := by
    unfold Fh_copy
    rw [fi_pos ⟨n2, n1⟩, fi_pos k1, cf, cm, cs]
  have tN : Ty (fun f a i => if f = 3 ∧ a = M.2.2 261 r 0 ∧ S.length ≤ i ∧ i < S.length + many then M.1 3 (M.2.2 261 s 0) (from_ + (i - S.length)) else M.1 f a i, M.2.1, M.2.2) := by
    refine ⟨T.1, fun f hf' a i => ?_, fun a i ha => ?_⟩
    · show (if f = 3 ∧ a = M.2.2 261 r 0 ∧ S.length ≤ i ∧ i < S.length + many then _ else M.1 f a i) = 0 ∨ (if f = 3 ∧ a = M.2.2 261 r 0 ∧ S.length ≤ i ∧ i < S.length + many then _ else M.1 f a i) = 1
      rw [if_neg (fun z => by rw [z.1] at hf'; exact absurd hf' (by decide))]
      exact T.2.1 f hf' a i
    · have ha' : fm_is M 904 904 a = true := ha
      show (if 3 = 3 ∧ a = M.2.2 261 r 0 ∧ S.length ≤ i ∧ i < S.length + many then _ else M.1 3 a i) = 0 ∨ (if 3 = 3 ∧ a = M.2.2 261 r 0 ∧ S.length ≤ i ∧ i < S.length + many then _ else M.1 3 a i) = 1
      rw [if_neg (fun z => by
        have z1 := fm_isd ha'
        have z2 := fm_isd n1
        rw [← z.2.1] at z2
        omega)]
      exact T.2.2 a i ha'
  obtain ⟨h1, g1⟩ := op_of (d := M) E (P := OkV M) ⟨tN, fun a _ => ⟨rfl, rfl⟩⟩
  have g1 : Gh_copy (M.2.2 261 s 0) (nI from_) (M.2.2 261 r 0) (nI S.length) (nI many) M = _ := g1
  have h1 : Hh_copy (M.2.2 261 s 0) (nI from_) (M.2.2 261 r 0) (nI S.length) (nI many) M := h1
  unfold HX3_addAll HX3_addAll_0 GX3_addAll GX3_addAll_0
  dsimp only
  rw [a3, g1]
  dsimp only
  have e262 : (if 262 = 3 ∧ r = M.2.2 261 r 0 ∧ S.length ≤ 0 ∧ 0 < S.length + many then M.1 3 (M.2.2 261 s 0) (from_ + (0 - S.length)) else M.1 262 r 0) = nI S.length := by
    rw [if_neg (fun z => absurd z.1 (by decide))]
    exact a3
  rw [e262, nI_a]
  have tk : ((Y.drop from_).take many).length = many := by
    rw [List.length_take, List.length_drop]
    omega
  refine ⟨⟨h1, trivial⟩, _, rfl, frm_I ⟨rfl, fun f b i z => ⟨if_neg (fun q => z (Or.inr ⟨q.1, q.2.1⟩)), rfl⟩⟩ (Or.inl ⟨rfl, rfl⟩), ⟨tN.1, tyb_sI rfl tN.2⟩, a1, a2, ?_, fun k hk => ?_, fun x hx => ?_⟩
  · rw [rI, if_pos ⟨rfl, rfl, rfl⟩, List.length_append, tk]
  · rw [List.length_append, tk] at hk
    refine (oI (fun z => absurd z.1 (by decide))).trans ?_
    by_cases q : S.length ≤ k
    · refine (if_pos ⟨rfl, rfl, q, hk⟩).trans ?_
      have hY : from_ + (k - S.length) < Y.length := by omega
      rw [b4 _ hY]
      have e : k = S.length + (k - S.length) := by omega
      rw [e, gD_r, ← e, List.getD_eq_getElem?_getD, List.getD_eq_getElem?_getD, List.getElem?_take_of_lt (by omega), List.getElem?_drop]
    · refine (if_neg (fun z => q z.2.2.1)).trans ?_
      rw [gD_a (by omega)]
      exact a4 k (by omega)
  · rcases List.mem_append.mp hx with hx | hx
    · exact a5 x hx
    · exact b5 x (List.mem_of_mem_drop (List.mem_of_mem_take hx))
end Ro
