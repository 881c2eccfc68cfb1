/-! floats: the component rounds -/
set_option maxRecDepth 100000
/-- ordinals of modes and of sorts -/
def Odf (M : FM) : Prop := ∀ i, i < 5 → M.1 10 (1 + i) 0 = nI i ∧ M.1 10 (6 + i) 0 = nI i
section Cr
variable {u k j t kd fl md : Nat} {c : Nat → Nat} {S : Nat → Prop} {M N X : FM} {sg : Bool} {e : Int} {V w : Nat}
theorem frC_od (h : FrCF c S M N) (d : Odf M) : Odf N := fun i hi => ⟨(h.2.2.1 _ _ _ (fun q => by omega) (fun q => by omega)).trans (d i hi).1, (h.2.2.1 _ _ _ (fun q => by omega) (fun q => by omega)).trans (d i hi).2⟩
/-- cut off, and grown as a mode asks for it -/
theorem cg (hm : md ≤ 4) (ho : M.1 10 (1 + md) 0 = nI md) (hw : wv M w = V) {z : Int} (hz : -127 ≤ z ∧ z ≤ 900000) (hb : z ≤ 1 → V * 2 ^ (2 - z).toNat < w128) (h2 : z ≤ 2 → cuU V z + 1 < w128) :
    GX62_cut w (Int32.ofInt z) M = (nI (cuC V false z), wSF w (cuU V z) M) ∧ GX62_isOdd w (wSF w (cuU V z) M) = (bz (cuU V z % 2 = 1), wSF w (cuU V z) M) ∧
    (∀ X, X.1 10 (1 + md) 0 = nI md → GX63_grows (1 + md) (bz (sg = true)) (bz (cuU V z % 2 = 1)) (nI (cuC V false z)) X = (bz (grw md sg (decide (cuU V z % 2 = 1)) (cuC V false z) = true), X)) ∧
    fi (grw md sg (decide (cuU V z % 2 = 1)) (cuC V false z) = true) (GX62_grow w (wSF w (cuU V z) M)) (wSF w (cuU V z) M) = wSF w (rnU md sg V false z) M := by
  subst hw
  obtain ⟨a1, a2⟩ := X62_cut (M := M) (w := w) hz hb
  have lt : cuU (wv M w) z + 1 < w128 := by
    by_cases q : z ≤ 2
    · exact h2 q
    · have h := cuU_lt (A := wv M w) (k := 127) (d := z) (by
        have := bln_le (show wv M w < 2 ^ 128 by rw [← w128_p]; exact wv_lt)
        omega)
      have : 2 ^ 127 + 1 < w128 := by decide
      omega
  refine ⟨a1, ?_, fun X hX => X63_grows hm hX cuC_h.2.2 ⟨fun q => decide_eq_true q, fun q => of_decide_eq_true q⟩, ?_⟩
  · rw [X62_isOdd, wv_wS a2]
  · unfold rnU
    by_cases q : grw md sg (decide (cuU (wv M w) z % 2 = 1)) (cuC (wv M w) false z) = true
    · rw [fi_pos q, if_pos q, X62_grow (by rw [wv_wS a2]; exact lt), wv_wS a2, wS_wS]
    · rw [fi_neg q, if_neg q, Nat.add_zero]
theorem pk_or (ht : t ≤ 1) {E F : Nat} (hE : E < 2 ^ (fS t - fF t)) (hF : F < 2 ^ fF t) : (lN (fi (sg = true) (2 ^ fS t) 0) ||| (lN E <<< ((Int32.ofInt (fF t : Int)).toInt64 &&& 63))) ||| lN F = lN (pk t sg E F) := by
  obtain ⟨b, -⟩ := p2F ht
  have e2 : 2 ^ fS t = 2 ^ (fS t - fF t) * 2 ^ fF t := by rw [← Nat.pow_add]; congr 1; omega
  have lt : E * 2 ^ fF t + F < 2 ^ fS t := by
    rw [e2]
    have := Nat.mul_le_mul_right (2 ^ fF t) (show E + 1 ≤ 2 ^ (fS t - fF t) from hE)
    rw [Nat.add_mul] at this
    omega
  have b2 : 2 ^ fS t ≤ 9223372036854775808 := by rcases b with b | b <;> rw [b.2.2.2.1] <;> decide
  rw [shl_n (by omega) (by omega)]
  have e3 : lN (fi (sg = true) (2 ^ fS t) 0) ||| lN (E * 2 ^ fF t) ||| lN F = lN (fi (sg = true) (2 ^ fS t) 0) ||| (lN (E * 2 ^ fF t) ||| lN F) := by
    apply ul_inj
    rw [ul_or, ul_or, ul_or, ul_or, Nat.or_assoc]
  have e4 : lN (E * 2 ^ fF t) ||| lN F = lN (E * 2 ^ fF t + F) := by
    apply ul_inj
    rw [ul_or, l_big (by omega), l_big (by omega), l_big (by omega), ← Nat.shiftLeft_eq, ← Nat.shiftLeft_add_eq_or_of_lt hF]
  rw [e3, e4, sg_or ht lt]
  unfold pk
  rw [Nat.add_assoc]
theorem X61_r211 (o : FlC u c M) (hk : k < 4) (ht : t ≤ 1) {U : Nat} {u3 : Int} (hs : M.1 115 (c k) 0 = bz (sg = true)) (hw : wv M (c (4 + k)) = U) (hU : U < 2 ^ (fF t + 1)) (hu : 1 - (fG t : Int) - fF t ≤ u3 ∧ u3 + fF t ≤ fG t) (hf : fl < 4294967296) :
    ∃ X, (HX61_round_211 (c (10 + t)) (c k) (Int32.ofInt u3) (c 12) (nI fl) M ∧ GX61_round_211 (c (10 + t)) (c k) (Int32.ofInt u3) (c 12) (nI fl) M = (lN (if U < 2 ^ fF t then pk t sg 0 U else pk t sg (u3 + fF t + fG t).toNat (U - 2 ^ fF t)), X)) ∧ Cf c S fl M X := by
  obtain ⟨b, b2⟩ := p2F ht
  obtain ⟨r1, r2⟩ := cf_f (S := S) o hf
  have o1 := cf_o o r2
  have fm1 := (o1.2.2.2.2.1 t (by omega)).2.2.1
  obtain ⟨-, l2, -, -⟩ := o1.2.2.2.1 k hk
  have d := o.2.2.1
  have n12 : c k ≠ c 12 := d k (by omega) 12 (by omega) (by omega)
  have s1 : (GX60_raise (c 12) (nI fl) M).1 115 (c k) 0 = bz (sg = true) := by
    rw [← hs]
    unfold GX60_raise GX60_raise_0 GX60_raise_24
    dsimp only
    by_cases q : nI fl = 0
    · rw [fi_pos q, oI (fun q => by omega), oI (fun q => by omega)]
    · rw [fi_neg q, oI (fun q => by omega), oI (fun q => by omega)]
  have w1 : (GX60_raise (c 12) (nI fl) M).2.1 = M.2.1 := by
    unfold GX60_raise GX60_raise_0 GX60_raise_24
    dsimp only
    by_cases q : nI fl = 0
    · rw [fi_pos q]
      rfl
    · rw [fi_neg q]
      rfl
  have lo : (GX60_raise (c 12) (nI fl) M).2.1 120 (c (4 + k)) 0 = lN U := by
    rw [w1, wv_l, hw, Nat.mod_eq_of_lt (by omega)]
  refine ⟨GX60_raise (c 12) (nI fl) M, ⟨⟨r1, trivial⟩, ?_⟩, r2⟩
  unfold GX61_round_211 GX61_round_252
  dsimp only
  generalize GX60_raise (c 12) (nI fl) M = K at *
  have eF : lN U &&& (lN (2 ^ fF t) - Int64.ofInt 1) = lN (U % 2 ^ fF t) := by
    rw [uF_e ht]
    unfold uF
    rw [l_big (by omega)]
  have q0 : lg_cmp (((lN U).toUInt64 >>> ((Int32.ofInt (fF t : Int)).toInt64.toUInt64 &&& Int64.toUInt64 63)).toInt64) (Int64.ofInt 0) = 0 ↔ U < 2 ^ fF t := by
    rw [l0, ul_ushr, l_big (by omega), iz_ui0 (by omega), show fF t % 64 = fF t by omega]
    exact Nat.div_eq_zero_iff_lt (Nat.two_pow_pos _)
  rw [l2, lo, s1, X61_sign ht fm1]
  dsimp only
  rw [fm1.1, fm1.2.1, shl1 ht, eF, propext q0, iz_a, iz_a]
  by_cases q : U < 2 ^ fF t
  · rw [fi_pos q, if_pos q, show Int64.ofInt 0 = lN 0 from rfl, Nat.mod_eq_of_lt q, pk_or ht (Nat.two_pow_pos _) q]
  · rw [fi_neg q, if_neg q, iz_64 (by omega)]
    have em : U % 2 ^ fF t = U - 2 ^ fF t := by
      rw [Nat.mod_eq_sub_mod (by omega), Nat.mod_eq_of_lt (by omega)]
    rw [em, pk_or ht (by rcases b with b | b <;> rw [b.2.1, b.2.2.2.1] <;> omega) (by omega)]
theorem X61_r134 (o : FlC u c M) (hk : k < 4) (ht : t ≤ 1) (hm : md ≤ 4) {U n : Nat} {u3 : Int} {sm : Prop} (hs : M.1 115 (c k) 0 = bz (sg = true)) (hw : wv M (c (4 + k)) = U) (hU : U < 2 ^ (fF t + 1)) (hn : n ≤ 3) (hu : 1 - (fG t : Int) - fF t ≤ u3 ∧ u3 ≤ 100000) :
    ∃ X, (HX61_round_134 (c (10 + t)) (c k) (1 + md) (c 12) (Int32.ofInt u3) (bz sm) (nI n) M ∧ GX61_round_134 (c (10 + t)) (c k) (1 + md) (c 12) (Int32.ofInt u3) (bz sm) (nI n) M =
      (lN (if (fG t : Int) < u3 + fF t then (if lps md sg = true then pk t sg (2 * fG t + 1) 0 else pk t sg (2 * fG t) (2 ^ fF t - 1)) else if U < 2 ^ fF t then pk t sg 0 U else pk t sg (u3 + fF t + fG t).toNat (U - 2 ^ fF t)), X)) ∧
      Cf c S (if (fG t : Int) < u3 + fF t then 5 else fi (n = 0) 0 (fi sm 3 1)) M X := by
  obtain ⟨b, b2⟩ := p2F ht
  have fm := (o.2.2.2.2.1 t (by omega)).2.2.1
  have cmp : Int32.ofInt u3 + Int32.ofInt (fF t : Int) ≤ Int32.ofInt (fG t : Int) ↔ u3 + fF t ≤ fG t := by rw [iz_a]; exact iz_le (by omega)
  have h211 : ∀ f, f < 4294967296 → HX61_round_211 (c (10 + t)) (c k) (Int32.ofInt u3) (c 12) (nI f) M := fun f hf => ⟨(cf_f (S := S) o hf).1, trivial⟩
  have h134 : HX61_round_134 (c (10 + t)) (c k) (1 + md) (c 12) (Int32.ofInt u3) (bz sm) (nI n) M :=
    ⟨fun _ => ⟨fun _ => h211 0 (by decide), fun _ => ⟨fun _ => h211 1 (by decide), fun _ => h211 3 (by decide)⟩⟩, fun _ => ⟨(cf_f (S := S) o (fl := 5) (by decide)).1, trivial⟩⟩
  unfold GX61_round_134
  rw [fm.1, fm.2.1, propext (show nI n = 0 ↔ (n : Int) = 0 from ni_eq (z := 0) (by omega)), fi_bz]
  by_cases q : u3 + fF t ≤ fG t
  · have hq : ¬ ((fG t : Int) < u3 + fF t) := by omega
    rw [fi_pos (cmp.mpr q), if_neg hq, if_neg hq]
    by_cases q2 : n = 0
    · rw [fi_pos (show (n : Int) = 0 by omega), fi_pos q2]
      obtain ⟨X, ⟨x1, x2⟩, x3⟩ := X61_r211 (S := S) (fl := 0) o hk ht hs hw hU (u3 := u3) (by omega) (by decide)
      exact ⟨X, ⟨h134, x2⟩, x3⟩
    · rw [fi_neg (show ¬ (n : Int) = 0 by omega), fi_neg q2]
      by_cases q3 : sm
      · rw [fi_pos q3, fi_pos q3]
        obtain ⟨X, ⟨x1, x2⟩, x3⟩ := X61_r211 (S := S) (fl := 3) o hk ht hs hw hU (u3 := u3) (by omega) (by decide)
        exact ⟨X, ⟨h134, x2⟩, x3⟩
      · rw [fi_neg q3, fi_neg q3]
        obtain ⟨X, ⟨x1, x2⟩, x3⟩ := X61_r211 (S := S) (fl := 1) o hk ht hs hw hU (u3 := u3) (by omega) (by decide)
        exact ⟨X, ⟨h134, x2⟩, x3⟩
  · have hq : (fG t : Int) < u3 + fF t := by omega
    rw [fi_neg (fun z => q (cmp.mp z)), if_pos hq, if_pos hq]
    obtain ⟨r1, r2⟩ := cf_f (S := S) o (fl := 5) (by decide)
    have o1 := cf_o o r2
    have fm1 := (o1.2.2.2.2.1 t (by omega)).2.2.1
    have s1 : (GX60_raise (c 12) (nI 5) M).1 115 (c k) 0 = bz (sg = true) := by
      rw [← hs]
      unfold GX60_raise GX60_raise_0 GX60_raise_24
      dsimp only
      rw [fi_neg (show ¬ nI 5 = 0 by decide), oI (fun q => by omega), oI (fun q => by omega)]
    rw [show Int32.ofInt 5 = nI 5 from rfl]
    generalize GX60_raise (c 12) (nI 5) M = K at *
    refine ⟨K, ⟨h134, ?_⟩, r2⟩
    unfold GX61_round_190
    dsimp only
    rw [s1, X63_leaps hm]
    dsimp only
    rw [s1, fi_bz, X61_sign ht fm1]
    dsimp only
    rw [X61_top ht fm1, X61_infinite ht fm1]
    dsimp only
    by_cases q2 : lps md sg = true
    · rw [fi_pos q2, if_pos q2]
    · rw [fi_neg q2, if_neg q2, show Int64.ofInt 1 = lN 1 from rfl]
      have p := Nat.two_pow_pos (fF t)
      have eT : (2 * fG t + 1) * 2 ^ fF t - 1 = 2 * fG t * 2 ^ fF t + (2 ^ fF t - 1) := by rw [Nat.add_mul]; omega
      have bT : (2 * fG t + 1) * 2 ^ fF t < 2 ^ fS t ∧ 2 ^ fS t ≤ 9223372036854775808 := by rcases b with b | b <;> rw [b.2.1, b.2.2.2.1, b.2.2.1] <;> decide
      have p1 : 1 ≤ (2 * fG t + 1) * 2 ^ fF t := Nat.mul_pos (by omega) p
      rw [l_s p1 (by omega), sg_or ht (by omega), eT]
      unfold pk
      rw [Nat.add_assoc]
end Cr
