/-! floats: numbers taken apart, lifted, copied; modes -/
set_option maxRecDepth 100000
def Cf (c : Nat → Nat) (S : Nat → Prop) (fl : Nat) (M N : FM) : Prop := FrCF c S M N ∧ Rc c fl M N
section Cb
variable {u k j t kd fl fl' md : Nat} {c : Nat → Nat} {S S' : Nat → Prop} {M N X : FM} {sg : Bool} {e : Int} {V : Nat}
theorem cf_r (T : Ty M) : Cf c S 0 M M := ⟨frC_rF T, by rw [or_n0], by rw [bz_f (c := (0 : Nat) ≠ 0) (fun q => q rfl)]; exact (or_n0 _).symm⟩
theorem cf_w (h : Cf c S fl M N) (w : ∀ k, S k → S' k) : Cf c S' fl M N := ⟨frC_w h.1 w, h.2⟩
theorem cf_t (h : Cf c S fl M N) (k : Cf c S fl' N X) (a : fl < 4294967296) (b : fl' < 4294967296) : Cf c S (fl ||| fl') M X := ⟨frC_tF h.1 k.1, rc_t h.2 k.2 a b⟩
theorem cf_0t (h : Cf c S 0 M N) (k : Cf c S fl N X) : Cf c S fl M X := ⟨frC_tF h.1 k.1, rc_0t h.2 k.2⟩
theorem cf_t0 (h : Cf c S fl M N) (k : Cf c S 0 N X) : Cf c S fl M X := ⟨frC_tF h.1 k.1, rc_t0 h.2 k.2⟩
theorem cf_R (o : FlC u c M) (hk : k < 4) (hd : kd ≤ 4) (hS : S k) : Cf c S 0 M (fm_sR M 114 (c k) 0 (6 + kd)) := by
  have ts : fm_is M 2 2 (6 + kd) = true := by
    refine ty_C_is ?_
    rcases (show kd = 0 ∨ kd = 1 ∨ kd = 2 ∨ kd = 3 ∨ kd = 4 by omega) with q | q | q | q | q <;> subst q
    · exact o.1.1.2.2.2.2.2.1 (6, 2) (by decide)
    · exact o.1.1.2.2.2.2.2.1 (7, 2) (by decide)
    · exact o.1.1.2.2.2.2.2.1 (8, 2) (by decide)
    · exact o.1.1.2.2.2.2.2.1 (9, 2) (by decide)
    · exact o.1.1.2.2.2.2.2.1 (10, 2) (by decide)
  refine ⟨⟨⟨ty_sRN (lo := 2) (hi := 2) (by decide) (by decide) (by decide) (by decide) o.1.1 ts, tyb_sR (by decide) o.1.2⟩, fun g b i q => oR (fun z => q ⟨z.1, k, hk, hS, z.2.1⟩), fun _ _ _ _ _ => rfl, fun _ _ _ _ _ => rfl⟩, rc_0 o rfl rfl⟩
theorem cf_I5 (o : FlC u c M) (hk : k < 4) (p : Prop) (hS : S k) : Cf c S 0 M (fm_sI M 115 (c k) 0 (bz p)) :=
  ⟨⟨⟨o.1.1, tyb_sIb (by rfl) o.1.2 (bz_z p)⟩, fun _ _ _ _ => rfl, fun g b i q _ => oI (fun z => q ⟨Or.inl z.1, k, hk, hS, z.2.1⟩), fun _ _ _ _ _ => rfl⟩, rc_0 o (oI (fun q => by omega)) (oI (fun q => by omega))⟩
theorem cf_I6 (o : FlC u c M) (hk : k < 4) (v : Int32) (hS : S k) : Cf c S 0 M (fm_sI M 116 (c k) 0 v) :=
  ⟨⟨⟨o.1.1, tyb_sI (by rfl) o.1.2⟩, fun _ _ _ _ => rfl, fun g b i q _ => oI (fun z => q ⟨Or.inr z.1, k, hk, hS, z.2.1⟩), fun _ _ _ _ _ => rfl⟩, rc_0 o (oI (fun q => by omega)) (oI (fun q => by omega))⟩
theorem cf_L8 (o : FlC u c M) (hk : k < 4) (v : Int64) (hS : S k) : Cf c S 0 M (fm_sL M 118 (c k) 0 v) :=
  ⟨⟨ty_eq rfl rfl o.1, fun _ _ _ _ => rfl, fun _ _ _ _ _ => rfl, fun g b i q _ => oL (fun z => q ⟨z.1, k, hk, hS, z.2.1⟩)⟩, rc_0 o rfl rfl⟩
theorem cf_W (o : FlC u c M) (hk : k < 4) (V : Nat) (hS : S k) : Cf c S 0 M (wSF (c (4 + k)) V M) :=
  ⟨⟨wS_ty o.1, fun _ _ _ _ => rfl, fun _ _ _ _ _ => rfl, fun g b i _ q => wS_o (fun z => q ⟨z.1, Or.inl ⟨k, hk, hS, z.2⟩⟩)⟩, rc_0 o rfl rfl⟩
theorem cf_T (o : FlC u c M) (ht : t < 2) (V : Nat) : Cf c S 0 M (wSF (c (8 + t)) V M) :=
  ⟨⟨wS_ty o.1, fun _ _ _ _ => rfl, fun _ _ _ _ _ => rfl, fun g b i _ q => wS_o (fun z => q ⟨z.1, Or.inr (by
    rcases (show t = 0 ∨ t = 1 by omega) with e | e
    · left
      rw [z.2, e]
    · right
      rw [z.2, e])⟩)⟩, rc_0 o rfl rfl⟩
theorem cf_o (o : FlC u c M) (h : Cf c S fl M N) : FlC u c N := frC_o o h.1
theorem cf_f (o : FlC u c M) (hf : fl < 4294967296) : HX60_raise (c 12) (nI fl) M ∧ Cf c S fl M (GX60_raise (c 12) (nI fl) M) := by
  obtain ⟨a, b, d⟩ := X60_raise o hf
  exact ⟨a, frC_w b (fun _ z => z.elim), d⟩
/-- what a thing becomes -/
theorem X71_become (o : FlC u c M) (hk : k < 4) (hd : kd ≤ 4) (hS : S k) : Cf c S 0 M (GX71_become (c k) (6 + kd) (bz (sg = true)) M) ∧ TkV c k (GX71_become (c k) (6 + kd) (bz (sg = true)) M) kd sg ∧
    (∀ e V, TkN c k M e V → TkN c k (GX71_become (c k) (6 + kd) (bz (sg = true)) M) e V) ∧ (GX71_become (c k) (6 + kd) (bz (sg = true)) M).2.1 = M.2.1 := by
  have c1 := cf_R (S := S) o hk hd hS
  refine ⟨cf_0t c1 (cf_I5 (cf_o o c1) hk _ hS), ⟨?_, ?_⟩, fun e V h => ⟨?_, h.2⟩, rfl⟩
  · exact if_pos ⟨rfl, rfl, rfl⟩
  · exact sI_at _ _ _ _ _
  · exact (oI (fun q => by omega)).trans h.1
theorem X71_number (o : FlC u c M) (hk : k < 4) (v : Int64) (hS : S k) : Cf c S 0 M (GX71_number (c k) (bz (sg = true)) v (Int32.ofInt e) M) ∧ TkV c k (GX71_number (c k) (bz (sg = true)) v (Int32.ofInt e) M) (if ul v = 0 then 0 else 1) sg ∧
    TkN c k (GX71_number (c k) (bz (sg = true)) v (Int32.ofInt e) M) e (ul v) ∧ (GX71_number (c k) (bz (sg = true)) v (Int32.ofInt e) M).2.1 118 (c k) 0 = M.2.1 118 (c k) 0 := by
  have key : ∀ kd, kd ≤ 4 → Cf c S 0 M (GX71_number_16 (c k) (bz (sg = true)) v (Int32.ofInt e) (c k) (6 + kd) M) ∧ TkV c k (GX71_number_16 (c k) (bz (sg = true)) v (Int32.ofInt e) (c k) (6 + kd) M) kd sg ∧
      TkN c k (GX71_number_16 (c k) (bz (sg = true)) v (Int32.ofInt e) (c k) (6 + kd) M) e (ul v) ∧ (GX71_number_16 (c k) (bz (sg = true)) v (Int32.ofInt e) (c k) (6 + kd) M).2.1 118 (c k) 0 = M.2.1 118 (c k) 0 := fun kd hd => by
    obtain ⟨a1, a2, a3, a4⟩ := X71_become (S := S) (sg := sg) o hk hd hS
    have o1 := cf_o o a1
    obtain ⟨-, l2, -, -⟩ := o1.2.2.2.1 k hk
    unfold GX71_number_16
    dsimp only
    rw [l2, X62_set]
    have b1 := cf_W (S := S) o1 hk (ul v) hS
    have o2 := cf_o o1 b1
    have b2 := cf_I6 (S := S) o2 hk (Int32.ofInt e) hS
    refine ⟨cf_0t a1 (cf_0t b1 b2), ⟨a2.1, ?_⟩, ⟨sI_at _ _ _ _ _, ?_⟩, ?_⟩
    · exact (oI (fun q => by omega)).trans a2.2
    · exact wv_wS (Nat.lt_trans (ul_lt v) (by decide))
    · exact (wS_o (fun q => by omega)).trans (by rw [a4])
  unfold GX71_number GX71_number_0
  rw [propext (l0 v)]
  by_cases q : ul v = 0
  · rw [fi_pos q, if_pos q]
    exact key 0 (by decide)
  · rw [fi_neg q, if_neg q]
    exact key 1 (by decide)
theorem X61_take (o : FlC u c M) (hk : k < 4) (ht : t ≤ 1) (b : Int64) (hS : S k) : Cf c S 0 M (GX61_take (c (10 + t)) b (c k) M) ∧ TkV c k (GX61_take (c (10 + t)) b (c k) M) (uK t b) (uS' t b) ∧
    (uK t b ≤ 1 → TkN c k (GX61_take (c (10 + t)) b (c k) M) (uP t b) (uZ t b)) ∧ (GX61_take (c (10 + t)) b (c k) M).2.1 118 (c k) 0 = b := by
  obtain ⟨p, -⟩ := p2F ht
  have fm := (o.2.2.2.2.1 t (by omega)).2.2.1
  have a1 := cf_L8 (S := S) o hk b hS
  have o1 := cf_o o a1
  have fm1 := (o1.2.2.2.2.1 t (by omega)).2.2.1
  have bF := uF_lt t b
  have bE := uE_lt t b
  have at8 : (fm_sL M 118 (c k) 0 b).2.1 118 (c k) 0 = b := sL_at _ _ _ _ _
  unfold GX61_take GX61_take_0
  dsimp only
  rw [X61_hasSign ht fm, fm.1, fm.2.1]
  dsimp only
  rw [shl1 ht, uF_e ht, uE_i ht, fm1.1, fm1.2.1]
  rw [show Int32.ofInt 2 * Int32.ofInt (fG t : Int) + Int32.ofInt 1 = nI (2 * fG t + 1) by rw [iz_m, iz_a, iz_nI]; rfl]
  by_cases q : uE t b = 2 * fG t + 1
  · rw [fi_pos (by rw [q])]
    have hq : lg_cmp (((lN (uF t b)).toUInt64 >>> ((Int32.ofInt (fF t : Int) - Int32.ofInt 1).toInt64.toUInt64 &&& Int64.toUInt64 63)).toInt64) (Int64.ofInt 1) = 0 ↔ uF t b / 2 ^ (fF t - 1) = 1 := by
      rw [cl_eq, ul_ushr, l_big (by omega), iz_s, show ((fF t : Nat) : Int) - 1 = ((fF t - 1 : Nat) : Int) by omega, iz_ui0 (by omega), show (fF t - 1) % 64 = fF t - 1 by omega]
      exact Iff.rfl
    have key : ∀ kd, kd ≤ 4 → uK t b = kd → ¬ kd ≤ 1 → Cf c S 0 M (GX61_take_104 (bz (uS' t b = true)) (c k) (6 + kd) (fm_sL M 118 (c k) 0 b)) ∧ TkV c k (GX61_take_104 (bz (uS' t b = true)) (c k) (6 + kd) (fm_sL M 118 (c k) 0 b)) (uK t b) (uS' t b) ∧
        (uK t b ≤ 1 → TkN c k (GX61_take_104 (bz (uS' t b = true)) (c k) (6 + kd) (fm_sL M 118 (c k) 0 b)) (uP t b) (uZ t b)) ∧ (GX61_take_104 (bz (uS' t b = true)) (c k) (6 + kd) (fm_sL M 118 (c k) 0 b)).2.1 118 (c k) 0 = b := fun kd hd h h1 => by
      obtain ⟨b1, b2, b3, b4⟩ := X71_become (S := S) (sg := uS' t b) o1 hk hd hS
      unfold GX61_take_104 GX61_take_158
      dsimp only
      rw [h]
      refine ⟨cf_0t a1 b1, b2, fun z => absurd z h1, ?_⟩
      rw [b4]
      exact at8
    have hK : uK t b = if uF t b = 0 then 2 else if uF t b / 2 ^ (fF t - 1) = 1 then 3 else 4 := by
      unfold uK
      rw [if_pos q]
    unfold GX61_take_74
    rw [propext hq, propext (l0 (lN (uF t b))), l_big (by omega)]
    by_cases q2 : uF t b = 0
    · rw [if_pos q2] at hK
      rw [fi_pos q2, fi_pos q2, fi_self]
      exact key 2 (by decide) hK (by decide)
    · rw [if_neg q2] at hK
      rw [fi_neg q2, fi_neg q2]
      by_cases q3 : uF t b / 2 ^ (fF t - 1) = 1
      · rw [if_pos q3] at hK
        rw [fi_pos q3, fi_neg (show ¬ Int32.ofInt 1 = 0 by decide)]
        exact key 3 (by decide) hK (by decide)
      · rw [if_neg q3] at hK
        rw [fi_neg q3, fi_pos (show Int32.ofInt 0 = 0 from rfl)]
        exact key 4 (by decide) hK (by decide)
  · have hK : uK t b = if uE t b = 0 ∧ uF t b = 0 then 0 else 1 := by
      unfold uK
      rw [if_neg q]
    have key : ∀ (V : Nat) (z : Int), V < 18446744073709551616 → uZ t b = V → z - fG t - fF t = uP t b → (V = 0 ↔ (uE t b = 0 ∧ uF t b = 0)) → Cf c S 0 M (GX61_take_145 (c (10 + t)) (c k) (bz (uS' t b = true)) (lN V) (Int32.ofInt z) (fm_sL M 118 (c k) 0 b)) ∧ TkV c k (GX61_take_145 (c (10 + t)) (c k) (bz (uS' t b = true)) (lN V) (Int32.ofInt z) (fm_sL M 118 (c k) 0 b)) (uK t b) (uS' t b) ∧
        (uK t b ≤ 1 → TkN c k (GX61_take_145 (c (10 + t)) (c k) (bz (uS' t b = true)) (lN V) (Int32.ofInt z) (fm_sL M 118 (c k) 0 b)) (uP t b) (uZ t b)) ∧ (GX61_take_145 (c (10 + t)) (c k) (bz (uS' t b = true)) (lN V) (Int32.ofInt z) (fm_sL M 118 (c k) 0 b)).2.1 118 (c k) 0 = b := fun V z hV h1 h2 h3 => by
      obtain ⟨b1, b2, b3, b4⟩ := X71_number (S := S) (sg := uS' t b) (e := z - fG t - fF t) o1 hk (lN V) hS
      rw [l_big hV] at b2 b3
      unfold GX61_take_145 GX61_take_158
      dsimp only
      rw [fm1.1, fm1.2.1, iz_s, iz_s]
      refine ⟨cf_0t a1 b1, ?_, fun _ => ?_, b4.trans at8⟩
      · rw [hK, ← ite_c h3]
        exact b2
      · rw [h1, ← h2]
        exact b3
    rw [fi_neg (fun z => q (by have := congrArg ui z; rw [ni_u (by omega), ni_u (by omega)] at this; exact this))]
    unfold GX61_take_134
    by_cases q2 : uE t b = 0
    · have z0 : nI (uE t b) = 0 := by rw [q2]; rfl
      rw [fi_pos z0, fi_pos z0]
      refine key (uF t b) 1 (by omega) ?_ ?_ ⟨fun z => ⟨q2, z⟩, fun z => z.2⟩
      · unfold uZ
        rw [if_pos q2]
      · unfold uP
        rw [if_pos q2]
    · have z0 : ¬ nI (uE t b) = 0 := fun z => q2 (by have := congrArg ui z; rw [ni_u (by omega)] at this; exact this)
      have eo : lN (2 ^ fF t) ||| lN (uF t b) = lN (uF t b + 2 ^ fF t) := by
        apply ul_inj
        rw [ul_or, l_big (by omega), l_big (by omega), l_big (by omega)]
        have := Nat.shiftLeft_add_eq_or_of_lt bF 1
        rw [Nat.shiftLeft_eq, Nat.one_mul] at this
        rw [← this, Nat.add_comm]
      rw [fi_neg z0, fi_neg z0, shl1 ht, eo, iz_nI]
      refine key (uF t b + 2 ^ fF t) (uE t b) (by omega) ?_ ?_ ⟨fun z => by omega, fun z => absurd z.1 q2⟩
      · unfold uZ
        rw [if_neg q2]
      · unfold uP
        rw [if_neg q2]
theorem X71_lift (o : FlC u c M) (hk : k < 4) (hS : S k) (h : TkN c k M e V) (hV : V < w128) {p : Nat} (hp : bln V ≤ p + 1 ∧ p + 1 ≤ 127) (he : -900000 ≤ e ∧ e ≤ 900000) : HX71_lift (c k) (Int32.ofInt p) M ∧ Cf c S 0 M (GX71_lift (c k) (Int32.ofInt p) M) ∧
    TkN c k (GX71_lift (c k) (Int32.ofInt p) M) (e - ((p + 1 - bln V : Nat) : Int)) (V * 2 ^ (p + 1 - bln V)) ∧ (∀ kd sg, TkV c k M kd sg → TkV c k (GX71_lift (c k) (Int32.ofInt p) M) kd sg) ∧ (GX71_lift (c k) (Int32.ofInt p) M).2.1 118 (c k) 0 = M.2.1 118 (c k) 0 := by
  obtain ⟨-, l2, -, -⟩ := o.2.2.2.1 k hk
  obtain ⟨x1, x2⟩ := X62_length (w := c (4 + k)) o.1
  have lt : V * 2 ^ (p + 1 - bln V) < w128 := by
    have h1 := bln_lt V
    refine Nat.lt_of_lt_of_le (Nat.mul_lt_mul_of_pos_right h1 (Nat.two_pow_pos _)) ?_
    rw [← Nat.pow_add, w128_p]
    exact Nat.pow_le_pow_right (by decide) (by omega)
  have G : GX71_lift (c k) (Int32.ofInt p) M = fm_sI (wSF (c (4 + k)) (V * 2 ^ (p + 1 - bln V)) M) 116 (c k) 0 (Int32.ofInt (e - ((p + 1 - bln V : Nat) : Int))) := by
    unfold GX71_lift GX71_lift_0
    dsimp only
    rw [l2, x2]
    dsimp only
    rw [l2, h.2, show Int32.ofInt (p : Int) + Int32.ofInt 1 - nI (bln V) = Int32.ofInt ((p + 1 - bln V : Nat) : Int) by rw [iz_nI, iz_a, iz_s]; congr 1; omega, X62_left (by omega), h.2, Nat.mod_eq_of_lt lt]
    rw [show (wSF (c (4 + k)) (V * 2 ^ (p + 1 - bln V)) M).1 116 (c k) 0 = M.1 116 (c k) 0 from rfl, h.1, iz_s]
  have b1 := cf_W (S := S) o hk (V * 2 ^ (p + 1 - bln V)) hS
  have b2 := cf_I6 (S := S) (cf_o o b1) hk (Int32.ofInt (e - ((p + 1 - bln V : Nat) : Int))) hS
  refine ⟨?_, ?_⟩
  · unfold HX71_lift HX71_lift_0
    dsimp only
    rw [l2]
    exact ⟨x1, trivial⟩
  · rw [G]
    refine ⟨cf_0t b1 b2, ⟨sI_at _ _ _ _ _, wv_wS lt⟩, fun kd sg v => ⟨v.1, (oI (fun q => by omega)).trans v.2⟩, wS_o (fun q => by omega)⟩
theorem X71_copy (o : FlC u c M) (hk : k < 4) (hj : j < 4) (hkj : k ≠ j) (hS : S j) (hd : kd ≤ 4) (v : TkV c k M kd sg) : Cf c S 0 M (GX71_copy (c j) (c k) M) ∧ TkV c j (GX71_copy (c j) (c k) M) kd sg ∧ (∀ e V, TkN c k M e V → TkN c j (GX71_copy (c j) (c k) M) e V) := by
  obtain ⟨-, l2, -, -⟩ := o.2.2.2.1 k hk
  obtain ⟨-, l3, -, -⟩ := o.2.2.2.1 j hj
  have ne := o.2.2.1 k (by omega) j (by omega) hkj
  have ne4 := o.2.2.1 (4 + k) (by omega) (4 + j) (by omega) (by omega)
  obtain ⟨a1, a2, a3, a4⟩ := X71_become (S := S) (sg := sg) o hj hd hS
  have o1 := cf_o o a1
  have b1 := cf_I6 (S := S) o1 hj (M.1 116 (c k) 0) hS
  have o2 := cf_o o1 b1
  have b2 := cf_W (S := S) o2 hj (wv M (c (4 + k))) hS
  have G : GX71_copy (c j) (c k) M = wSF (c (4 + j)) (wv M (c (4 + k))) (fm_sI (GX71_become (c j) (6 + kd) (bz (sg = true)) M) 116 (c j) 0 (M.1 116 (c k) 0)) := by
    unfold GX71_copy GX71_copy_0
    dsimp only
    rw [v.1, v.2]
    have e1 : (GX71_become (c j) (6 + kd) (bz (sg = true)) M).1 116 (c k) 0 = M.1 116 (c k) 0 := oI (fun q => by omega)
    have e2 : (fm_sI (GX71_become (c j) (6 + kd) (bz (sg = true)) M) 116 (c j) 0 (M.1 116 (c k) 0)).2.2 117 (c j) 0 = c (4 + j) := (o2.2.2.2.1 j hj).2.1
    have e3 : (fm_sI (GX71_become (c j) (6 + kd) (bz (sg = true)) M) 116 (c j) 0 (M.1 116 (c k) 0)).2.2 117 (c k) 0 = c (4 + k) := (o2.2.2.2.1 k hk).2.1
    rw [e1, e2, e3, X62_copy ne4]
    rfl
  rw [G]
  refine ⟨cf_0t a1 (cf_0t b1 b2), ⟨a2.1, (oI (M := GX71_become (c j) (6 + kd) (bz (sg = true)) M) (f := 116) (a := c j) (i := 0) (v := M.1 116 (c k) 0) (fun q => by omega)).trans a2.2⟩, fun e V h => ⟨?_, ?_⟩⟩
  · exact (sI_at _ _ _ _ _).trans h.1
  · rw [← h.2]
    exact wv_wS wv_lt
theorem X63_grows (hm : md ≤ 4) (ho : M.1 10 (1 + md) 0 = nI md) {p : Prop} {n : Nat} (hn : n ≤ 3) {ob : Bool} (hob : p ↔ ob = true) : GX63_grows (1 + md) (bz (sg = true)) (bz p) (nI n) M = (bz (grw md sg ob n = true), M) := by
  unfold GX63_grows GX63_grows_0 GX63_grows_99 GX63_grows_98 GX63_grows_86 GX63_grows_87 GX63_grows_72 GX63_grows_73 GX63_grows_58 GX63_grows_54 GX63_grows_59 GJ0_ordinal GJ0_ordinal_0
  dsimp only
  rw [ho, fi_bz, fi_bz, fi_bz, propext (ni_eq (z := 3) (k := n) (by omega)), propext (ni_eq (z := 2) (k := n) (by omega)), propext (show nI n ≤ 0 ↔ (n : Int) ≤ 0 from ni_le (z := 0) (k := n) (by omega)), propext (ni_le (z := 1) (k := n) (by omega))]
  have fT : ∀ q : Prop, q → (Int32.ofInt 1, M) = (bz q, M) := fun q h => by rw [bz_t h]
  have fF : ∀ q : Prop, ¬ q → (Int32.ofInt 0, M) = (bz q, M) := fun q h => by rw [bz_f h]
  rcases (show md = 0 ∨ md = 1 ∨ md = 2 ∨ md = 3 ∨ md = 4 by omega) with e | e | e | e | e <;> subst e
  · rw [fi_pos (show nI 0 = Int32.ofInt 0 from rfl)]
    by_cases a : (n : Int) = 3
    · rw [fi_pos a]
      exact fT _ (grw_0.mpr (Or.inl (by omega)))
    · rw [fi_neg a]
      by_cases b : (n : Int) = 2
      · rw [fi_pos b]
        by_cases d : p
        · rw [fi_pos d]
          exact fT _ (grw_0.mpr (Or.inr ⟨by omega, hob.mp d⟩))
        · rw [fi_neg d]
          exact fF _ (fun z => (grw_0.mp z).elim (fun y => by omega) (fun y => d (hob.mpr y.2)))
      · rw [fi_neg b]
        exact fF _ (fun z => (grw_0.mp z).elim (fun y => by omega) (fun y => by omega))
  · rw [fi_neg (show ¬ nI 1 = Int32.ofInt 0 by decide), fi_pos (show nI 1 = Int32.ofInt 1 from rfl)]
    exact fF _ (fun z => grw_1.mp z)
  · rw [fi_neg (show ¬ nI 2 = Int32.ofInt 0 by decide), fi_neg (show ¬ nI 2 = Int32.ofInt 1 by decide), fi_pos (show nI 2 = Int32.ofInt 2 from rfl)]
    by_cases a : sg = true
    · rw [fi_pos a]
      by_cases b : (n : Int) ≤ 0
      · rw [fi_pos b]
        exact fF _ (fun z => by have := (grw_2.mp z).2; omega)
      · rw [fi_neg b]
        exact fT _ (grw_2.mpr ⟨a, by omega⟩)
    · rw [fi_neg a]
      exact fF _ (fun z => a (grw_2.mp z).1)
  · rw [fi_neg (show ¬ nI 3 = Int32.ofInt 0 by decide), fi_neg (show ¬ nI 3 = Int32.ofInt 1 by decide), fi_neg (show ¬ nI 3 = Int32.ofInt 2 by decide), fi_pos (show nI 3 = Int32.ofInt 3 from rfl)]
    by_cases a : sg = true
    · rw [fi_pos a]
      exact fF _ (fun z => (grw_3.mp z).1 a)
    · rw [fi_neg a]
      by_cases b : (n : Int) ≤ 0
      · rw [fi_pos b]
        exact fF _ (fun z => by have := (grw_3.mp z).2; omega)
      · rw [fi_neg b]
        exact fT _ (grw_3.mpr ⟨a, by omega⟩)
  · rw [fi_neg (show ¬ nI 4 = Int32.ofInt 0 by decide), fi_neg (show ¬ nI 4 = Int32.ofInt 1 by decide), fi_neg (show ¬ nI 4 = Int32.ofInt 2 by decide), fi_neg (show ¬ nI 4 = Int32.ofInt 3 by decide), fi_pos (show nI 4 = Int32.ofInt 4 from rfl)]
    by_cases b : (n : Int) ≤ 1
    · rw [fi_pos b]
      exact fF _ (fun z => by have := grw_4.mp z; omega)
    · rw [fi_neg b]
      exact fT _ (grw_4.mpr (by omega))
theorem X63_leaps (hm : md ≤ 4) : GX63_leaps (1 + md) (bz (sg = true)) M = (bz (lps md sg = true), M) := by
  unfold GX63_leaps GX63_leaps_0 GX63_leaps_28 GX63_leaps_31 GX63_leaps_36
  rw [fi_bz]
  rcases (show md = 0 ∨ md = 1 ∨ md = 2 ∨ md = 3 ∨ md = 4 by omega) with e | e | e | e | e <;> subst e <;> cases sg
  · rw [fi_pos (by decide), bz_t (by decide)]
  · rw [fi_pos (by decide), bz_t (by decide)]
  · rw [fi_neg (by decide), fi_neg (by decide), fi_neg (by decide), fi_neg (by decide), bz_f (by decide)]
  · rw [fi_neg (by decide), fi_neg (by decide), fi_pos rfl, fi_neg (by decide), bz_f (by decide)]
  · rw [fi_neg (by decide), fi_neg (by decide), fi_neg (by decide), fi_neg (by decide), bz_f (by decide)]
  · rw [fi_neg (by decide), fi_neg (by decide), fi_pos rfl, fi_pos (by decide), bz_t (by decide)]
  · rw [fi_neg (by decide), fi_neg (by decide), fi_neg (by decide), fi_pos (by decide), bz_t (by decide)]
  · rw [fi_neg (by decide), fi_neg (by decide), fi_pos rfl, fi_neg (by decide), bz_f (by decide)]
  · rw [fi_neg (by decide), fi_pos (by decide), bz_t (by decide)]
  · rw [fi_neg (by decide), fi_pos (by decide), bz_t (by decide)]
end Cb
