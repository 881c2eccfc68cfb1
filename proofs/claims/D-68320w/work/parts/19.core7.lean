/-! the twin's core: a step as a whole, what is seen of memory behind it -/
noncomputable def cx (R : Nat → Int64) (pc : Int64) (w len : Int32) : CR :=
  fi (nI (fd w 6 0) = Int32.ofInt 19) (cval (avI (nI (fd w 14 12)) w (R (fd w 19 15))) (fd w 11 7) (pc + len.toInt64) pc)
  (fi (nI (fd w 6 0) = Int32.ofInt 23) (cval (some (pc + iU w)) (fd w 11 7) (pc + len.toInt64) pc)
  (fi (nI (fd w 6 0) = Int32.ofInt 27) (cval (avW (nI (fd w 14 12)) (nI (fd w 31 25)) w (R (fd w 19 15))) (fd w 11 7) (pc + len.toInt64) pc)
  (fi (nI (fd w 6 0) = Int32.ofInt 51) (cval (avR (nI (fd w 14 12)) (nI (fd w 31 25)) (R (fd w 19 15)) (R (fd w 24 20))) (fd w 11 7) (pc + len.toInt64) pc)
  (fi (nI (fd w 6 0) = Int32.ofInt 55) (cval (some (iU w)) (fd w 11 7) (pc + len.toInt64) pc)
  (fi (nI (fd w 6 0) = Int32.ofInt 59) (cval (avQ (nI (fd w 14 12)) (nI (fd w 31 25)) (R (fd w 19 15)) (R (fd w 24 20))) (fd w 11 7) (pc + len.toInt64) pc)
  (fi (nI (fd w 6 0) = Int32.ofInt 99) (fi (nI (fd w 14 12) = Int32.ofInt 2 ∨ nI (fd w 14 12) = Int32.ofInt 3) (cill pc) (Int32.ofInt 0, 0, Int64.ofInt 0, pc + fi (brc (nI (fd w 14 12)) (R (fd w 19 15)) (R (fd w 24 20))) (iB w) len.toInt64, none))
  (fi (nI (fd w 6 0) = Int32.ofInt 103) (fi (nI (fd w 14 12) = 0) (Int32.ofInt 0, fd w 11 7, pc + len.toInt64, R (fd w 19 15) + iI w - ((R (fd w 19 15) + iI w) &&& Int64.ofInt 1), none) (cill pc))
  (fi (nI (fd w 6 0) = Int32.ofInt 111) (Int32.ofInt 0, fd w 11 7, pc + len.toInt64, pc + iJ w, none)
  (fi (nI (fd w 6 0) = Int32.ofInt 15) (fi (Int32.ofInt 2 ≤ nI (fd w 14 12)) (cill pc) (Int32.ofInt 1, 0, Int64.ofInt 0, pc + len.toInt64, none))
  (cwt (wt (nI (fd w 6 0)) (nI (fd w 14 12)) w (R (fd w 19 15)) (R (fd w 24 20)) (nI (fd w 11 7))) pc))))))))))
/-- memory behind a step: only the core's things have changed; registers, counter, what is wanted -/
def Cv (c : Nat) (M M' : FM) (len : Int32) (r : CR) : Prop :=
  M'.2.2 = M.2.2 ∧ (∀ f a i, a ≠ c → M'.1 f a i = M.1 f a i) ∧ (∀ f a i, a ≠ c → a ≠ M.2.2 346 c 0 → a ≠ M.2.2 355 c 0 → M'.2.1 f a i = M.2.1 f a i) ∧
  (∀ i, M'.2.1 3 (M.2.2 346 c 0) i = if i = r.2.1 ∧ 0 < i then r.2.2.1 else M.2.1 3 (M.2.2 346 c 0) i) ∧ M'.2.1 347 c 0 = r.2.2.2.1 ∧
  (r.2.2.2.2 = none → M'.1 353 c 0 = Int32.ofInt (-1)) ∧
  (∀ q, r.2.2.2.2 = some q → M'.1 353 c 0 = q.1 ∧ M'.1 354 c 0 = len ∧ M'.2.1 3 (M.2.2 355 c 0) 0 = q.2.1 ∧ M'.2.1 3 (M.2.2 355 c 0) 1 = q.2.2.1 ∧ M'.2.1 3 (M.2.2 355 c 0) 2 = q.2.2.2.1 ∧ M'.2.1 3 (M.2.2 355 c 0) 3 = q.2.2.2.2.1 ∧ M'.2.1 3 (M.2.2 355 c 0) 4 = q.2.2.2.2.2.toInt64)
/-- memory within a step -/
def Cb (c : Nat) (M N : FM) (len : Int32) : Prop := N.2.2 = M.2.2 ∧ (∀ f a i, a ≠ c → N.1 f a i = M.1 f a i) ∧ (∀ f a i, a ≠ c → N.2.1 f a i = M.2.1 f a i) ∧ N.2.1 347 c 0 = M.2.1 347 c 0 ∧ N.1 353 c 0 = Int32.ofInt (-1) ∧ N.1 350 c 0 = len
theorem Cb_sq {c : Nat} {M N N' : FM} {len : Int32} (h : Cb c M N len) (q : sq c N N') : Cb c M N' len := by
  rcases q with rfl | ⟨q, r, rfl⟩
  · exact h
  · obtain ⟨h1, h2, h3, h4, h5, h6⟩ := h
    refine ⟨h1, h2, fun f a i ha => ?_, ?_, h5, h6⟩
    · rw [← h3 f a i ha]
      simp [dQ, rL, ha]
    · rw [← h4]
      simp [dQ, rL]
theorem Cb_e14 {c : Nat} {M : FM} (hc : M.2.2 346 c 0 ≠ c) (w len : Int32) : Cb c M (e14 c w len M) len := by
  refine ⟨rfl, fun f a i ha => ?_, fun f a i ha => ?_, ?_, ?_, ?_⟩ <;> simp_all [e14, e4, rI, rL, rL0, rI1]
section Cv
variable {c : Nat} {M N : FM} {len : Int32}
theorem Cv_ill (hc : M.2.2 346 c 0 ≠ c) (h : Cb c M N len) : Cv c M N len (cill (M.2.1 347 c 0)) := by
  obtain ⟨h1, h2, h3, h4, h5, h6⟩ := h
  exact ⟨h1, h2, fun f a i ha _ _ => h3 f a i ha, fun i => by rw [if_neg (fun q => by have := q.1; have := q.2; simp [cill] at *; omega)]; exact h3 _ _ _ hc, h4, fun _ => h5, fun q e => by cases e⟩
theorem Cv_go (hc : M.2.2 346 c 0 ≠ c) (h : Cb c M N len) (to : Int64) : Cv c M (GX98_go c to N).2 len (Int32.ofInt 0, 0, Int64.ofInt 0, to, none) := by
  obtain ⟨h1, h2, h3, h4, h5, h6⟩ := h
  refine ⟨h1, h2, fun f a i ha _ _ => ?_, fun i => ?_, ?_, fun _ => h5, fun q e => by cases e⟩
  · rw [← h3 f a i ha]
    simp [GX98_go_0, GX98_go, rL, ha]
  · rw [if_neg (by rintro ⟨q, r⟩; simp at q; omega), ← h3 3 _ i hc]
    simp [GX98_go_0, GX98_go, rL]
  · simp [GX98_go_0, GX98_go, rL]
theorem put_le {k : Nat} (hk : k < 32) : nI k ≤ 0 ↔ k = 0 := by
  rw [le_ti, ti, ui_nI]
  show (if k % 4294967296 < 2147483648 then _ else _) ≤ (0 : Int32).toInt ↔ _
  rw [show (0 : Int32).toInt = 0 from rfl]
  split <;> omega
theorem Cb_put (hc : M.2.2 346 c 0 ≠ c) (h : Cb c M N len) {k : Nat} (hk : k < 32) (v : Int64) : (GX98_put c (nI k) v N).2.2 = M.2.2 ∧ (GX98_put c (nI k) v N).1 = N.1 ∧ (∀ f a i, a ≠ M.2.2 346 c 0 → (GX98_put c (nI k) v N).2.1 f a i = N.2.1 f a i) ∧ (∀ i, (GX98_put c (nI k) v N).2.1 3 (M.2.2 346 c 0) i = if i = k ∧ 0 < i then v else M.2.1 3 (M.2.2 346 c 0) i) := by
  obtain ⟨h1, h2, h3, h4, h5, h6⟩ := h
  by_cases z : k = 0
  · have e : GX98_put c (nI k) v N = N := by simp only [GX98_put_11, GX98_put_0, GX98_put]; rw [fi_pos ((put_le hk).mpr z)]
    rw [e]
    exact ⟨h1, rfl, fun _ _ _ _ => rfl, fun i => by rw [if_neg (by rintro ⟨q, r⟩; omega)]; exact h3 _ _ _ hc⟩
  · have e : GX98_put c (nI k) v N = fm_sL N 3 (M.2.2 346 c 0) k v := by simp only [GX98_put_11, GX98_put_0, GX98_put]; rw [fi_neg (fun q => z ((put_le hk).mp q)), h1, nI_clamp (by omega)]
    rw [e]
    refine ⟨h1, rfl, fun f a i ha => ?_, fun i => ?_⟩
    · simp [rL, ha]
    · rw [rL, h3 _ _ _ hc]
      by_cases q : i = k
      · subst q
        rw [if_pos ⟨rfl, rfl, rfl⟩, if_pos ⟨rfl, by omega⟩]
      · rw [if_neg (fun r => q r.2.2), if_neg (fun r => q r.1)]
theorem Cv_done (hc : M.2.2 346 c 0 ≠ c) (h : Cb c M N len) {k : Nat} (hk : k < 32) (v : Int64) : Cv c M (GX98_done c (nI k) v N).2 len (Int32.ofInt 0, k, v, M.2.1 347 c 0 + len.toInt64, none) := by
  obtain ⟨p1, p2, p3, p4⟩ := Cb_put hc h hk v
  obtain ⟨h1, h2, h3, h4, h5, h6⟩ := h
  have hc' : c ≠ M.2.2 346 c 0 := fun e => hc e.symm
  refine ⟨p1, fun f a i ha => ?_, fun f a i ha hb _ => ?_, fun i => ?_, ?_, fun _ => ?_, fun q e => by cases e⟩
  · simp only [GX98_done_0, GX98_done, rL0, p2]
    exact h2 f a i ha
  · rw [← h3 f a i ha, ← p3 f a i hb]
    simp [GX98_done_0, GX98_done, rL, ha]
  · rw [← p4 i]
    simp [GX98_done_0, GX98_done, rL]
  · simp [GX98_done_0, GX98_done, rL, rL0, p2, h6, p3 347 c 0 hc', h4]
  · simp only [GX98_done_0, GX98_done, rL0, p2]
    exact h5
theorem Cv_putgo (hc : M.2.2 346 c 0 ≠ c) (h : Cb c M N len) {k : Nat} (hk : k < 32) (v to : Int64) : Cv c M (GX98_go c to (GX98_put c (nI k) v N)).2 len (Int32.ofInt 0, k, v, to, none) := by
  obtain ⟨p1, p2, p3, p4⟩ := Cb_put hc h hk v
  obtain ⟨h1, h2, h3, h4, h5, h6⟩ := h
  refine ⟨p1, fun f a i ha => ?_, fun f a i ha hb _ => ?_, fun i => ?_, ?_, fun _ => ?_, fun q e => by cases e⟩
  · simp only [GX98_go_0, GX98_go, rL0, p2]
    exact h2 f a i ha
  · rw [← h3 f a i ha, ← p3 f a i hb]
    simp [GX98_go_0, GX98_go, rL, ha]
  · rw [← p4 i]
    simp [GX98_go_0, GX98_go, rL]
  · simp [GX98_go_0, GX98_go, rL]
  · simp only [GX98_go_0, GX98_go, rL0, p2]
    exact h5
theorem Cv_want (hc : M.2.2 346 c 0 ≠ c) (hn : M.2.2 355 c 0 ≠ c) (hm : M.2.2 346 c 0 ≠ M.2.2 355 c 0) (h : Cb c M N len) (q : Wt) : Cv c M (GX98_want c q.1 q.2.1 q.2.2.1 q.2.2.2.1 q.2.2.2.2.1 q.2.2.2.2.2 N).2 len (q.1, 0, Int64.ofInt 0, M.2.1 347 c 0, some q) := by
  obtain ⟨h1, h2, h3, h4, h5, h6⟩ := h
  have c0 : (Int32.ofInt 0).toNatClampNeg = 0 := rfl
  have c1 : (Int32.ofInt 1).toNatClampNeg = 1 := rfl
  have c2 : (Int32.ofInt 2).toNatClampNeg = 2 := rfl
  have c3 : (Int32.ofInt 3).toNatClampNeg = 3 := rfl
  have c4 : (Int32.ofInt 4).toNatClampNeg = 4 := rfl
  refine ⟨h1, fun f a i ha => ?_, fun f a i ha _ hb => ?_, fun i => ?_, ?_, fun e => (by cases e), fun r e => ?_⟩
  · rw [← h2 f a i ha]
    simp [GX98_want_0, GX98_want, rL0, rI, ha]
  · rw [← h3 f a i ha]
    simp [GX98_want_0, GX98_want, rL, rL2, rI1, rI2, h1, hb]
  · rw [if_neg (by rintro ⟨q, r⟩; simp at q; omega), ← h3 3 _ i hc]
    simp [GX98_want_0, GX98_want, rL, rL2, rI1, rI2, h1, hm]
  · simp [GX98_want_0, GX98_want, rL, rL2, rI1, rI2, h4]
  · obtain rfl : q = r := Option.some.inj e
    simp [GX98_want_0, GX98_want, rL, rL0, rL2, rI, rI1, rI2, h1, h6, c0, c1, c2, c3, c4]
end Cv
theorem Rn_Cv {c : Nat} {M N : FM} {len : Int32} (hc : M.2.2 346 c 0 ≠ c) (h : Cb c M N len) {k : Nat} (hk : k < 32) {o : Option Int64} {res : Int32 × FM} (q : Rn c N (nI k) o res) :
    res.1 = (cval o k (M.2.1 347 c 0 + len.toInt64) (M.2.1 347 c 0)).1 ∧ Cv c M res.2 len (cval o k (M.2.1 347 c 0 + len.toInt64) (M.2.1 347 c 0)) := by
  obtain ⟨N', s, ⟨rfl, rfl⟩ | ⟨v, rfl, rfl⟩⟩ := q
  · exact ⟨rfl, Cv_ill hc (Cb_sq h s)⟩
  · exact ⟨rfl, Cv_done hc (Cb_sq h s) hk v⟩
theorem Rw_Cv {c : Nat} {M N : FM} {len : Int32} (hc : M.2.2 346 c 0 ≠ c) (hn : M.2.2 355 c 0 ≠ c) (hm : M.2.2 346 c 0 ≠ M.2.2 355 c 0) (h : Cb c M N len) {o : Option Wt} {res : Int32 × FM} (q : Rw c N o res) :
    res.1 = (cwt o (M.2.1 347 c 0)).1 ∧ Cv c M res.2 len (cwt o (M.2.1 347 c 0)) := by
  rcases q with ⟨rfl, rfl⟩ | ⟨v, rfl, rfl⟩
  · exact ⟨rfl, Cv_ill hc h⟩
  · exact ⟨rfl, Cv_want hc hn hm h v⟩
theorem X98_run {c : Nat} {M : FM} (T : Ty M) (n : fm_is M 94 94 c = true) (hc : M.2.2 346 c 0 ≠ c) (hn : M.2.2 355 c 0 ≠ c) (hm : M.2.2 346 c 0 ≠ M.2.2 355 c 0) (w : Int32) {len : Int32} (hl : len = Int32.ofInt 2 ∨ len = Int32.ofInt 4) :
    HX98_run c w len M ∧ ∃ M', GX98_run c w len M = ((cx (M.2.1 3 (M.2.2 346 c 0)) (M.2.1 347 c 0) w len).1, M') ∧ Cv c M M' len (cx (M.2.1 3 (M.2.2 346 c 0)) (M.2.1 347 c 0) w len) := by
  obtain ⟨eH, eG⟩ := X98_run_e T n hc w hl
  have hk : fd w 11 7 < 32 := Nat.lt_of_lt_of_le (fd_lt w (by decide)) (by decide)
  have hd : d5 (nI (fd w 11 7)) := ⟨_, hk, rfl⟩
  have B := Cb_e14 (M := M) hc w len
  have T14 : Ty (e14 c w len M) := e14_ty T
  have n14 : fm_is (e14 c w len M) 94 94 c = true := n
  have v1 : (e14 c w len M).1 349 c 0 = w := e4_w c w len M
  have v2 : (e14 c w len M).2.1 351 c 0 = M.2.1 3 (M.2.2 346 c 0) (fd w 19 15) := by simp [e14, rL]
  have v3 : (e14 c w len M).2.1 352 c 0 = M.2.1 3 (M.2.2 346 c 0) (fd w 24 20) := by simp [e14, rL]
  have v4 : (e14 c w len M).2.1 347 c 0 = M.2.1 347 c 0 := B.2.2.2.1
  have v5 : (e14 c w len M).1 350 c 0 = len := B.2.2.2.2.2
  have hD : ∀ v, HX98_done c (nI (fd w 11 7)) v (e14 c w len M) := X98_done_H T14 n14 hd
  have hP : ∀ v, HX98_put c (nI (fd w 11 7)) v (e14 c w len M) := X98_put_H T14 n14 hd
  -- a put leaves the word
  have pT : ∀ v, Ty (GX98_put c (nI (fd w 11 7)) v (e14 c w len M)) := fun v => (gX98_put c _ v _ T14 n14 (hP v)).2.1
  have pn : ∀ v, fm_is (GX98_put c (nI (fd w 11 7)) v (e14 c w len M)) 94 94 c = true := fun v => ext_is (gX98_put c _ v _ T14 n14 (hP v)).2.2 (by decide) n14
  have pw1 : ∀ v, (GX98_put c (nI (fd w 11 7)) v (e14 c w len M)).1 349 c 0 = w := fun v => by rw [(Cb_put hc B hk v).2.1]; exact v1
  have hc' : c ≠ M.2.2 346 c 0 := fun e => hc e.symm
  have px : ∀ v, (GX98_put c (nI (fd w 11 7)) v (e14 c w len M)).2.1 351 c 0 = M.2.1 3 (M.2.2 346 c 0) (fd w 19 15) := fun v => by rw [(Cb_put hc B hk v).2.2.1 351 c 0 hc']; exact v2
  have pp : ∀ v, (GX98_put c (nI (fd w 11 7)) v (e14 c w len M)).2.1 347 c 0 = M.2.1 347 c 0 := fun v => by rw [(Cb_put hc B hk v).2.2.1 347 c 0 hc']; exact v4
  have iU' := X98_immediateU T14 n14
  have iI' := fun v => X98_immediateI (pT v) (pn v)
  have iJ' := fun v => X98_immediateJ (pT v) (pn v)
  rw [v1] at iU'
  simp only [pw1] at iI' iJ'
  refine ⟨?_, ?_⟩
  · rw [eH]
    simp only [csH, X98_withImmediate T14 n14 hd, X98_intImmediate T14 n14 hd, X98_withRegister T14 n14 hd, X98_intRegister T14 n14 hd, X98_branch T14 n14, X98_others_H T14 n14, iU', iI', iJ', hD, hP, true_and, and_true, and_false, false_and, or_false, false_or, not_true, not_false_iff, if_true, if_false, true_or, or_true, and_self, imp_true_iff, true_imp_iff, false_imp_iff]
  · have key : (csw c (nI (fd w 6 0)) (nI (fd w 11 7)) (nI (fd w 14 12)) (nI (fd w 31 25)) (e14 c w len M)).1 = (cx (M.2.1 3 (M.2.2 346 c 0)) (M.2.1 347 c 0) w len).1 ∧
        Cv c M (csw c (nI (fd w 6 0)) (nI (fd w 11 7)) (nI (fd w 14 12)) (nI (fd w 31 25)) (e14 c w len M)).2 len (cx (M.2.1 3 (M.2.2 346 c 0)) (M.2.1 347 c 0) w len) := by
      unfold csw cx
      by_cases h19 : nI (fd w 6 0) = Int32.ofInt 19
      · rw [fi_pos h19, fi_pos h19]
        have k := (X98_withImmediate T14 n14 hd (nI (fd w 14 12))).2
        rw [v1, v2] at k
        exact Rn_Cv hc B hk k
      rw [fi_neg h19, fi_neg h19]
      by_cases h23 : nI (fd w 6 0) = Int32.ofInt 23
      · rw [fi_pos h23, fi_pos h23]
        dsimp only
        rw [iU'.2, v4]
        exact ⟨rfl, Cv_done hc B hk _⟩
      rw [fi_neg h23, fi_neg h23]
      by_cases h27 : nI (fd w 6 0) = Int32.ofInt 27
      · rw [fi_pos h27, fi_pos h27]
        have k := (X98_intImmediate T14 n14 hd (nI (fd w 14 12)) (nI (fd w 31 25))).2
        rw [v1, v2] at k
        exact Rn_Cv hc B hk k
      rw [fi_neg h27, fi_neg h27]
      by_cases h51 : nI (fd w 6 0) = Int32.ofInt 51
      · rw [fi_pos h51, fi_pos h51]
        have k := (X98_withRegister T14 n14 hd (nI (fd w 14 12)) (nI (fd w 31 25))).2
        rw [v2, v3] at k
        exact Rn_Cv hc B hk k
      rw [fi_neg h51, fi_neg h51]
      by_cases h55 : nI (fd w 6 0) = Int32.ofInt 55
      · rw [fi_pos h55, fi_pos h55]
        dsimp only
        rw [iU'.2]
        exact ⟨rfl, Cv_done hc B hk _⟩
      rw [fi_neg h55, fi_neg h55]
      by_cases h59 : nI (fd w 6 0) = Int32.ofInt 59
      · rw [fi_pos h59, fi_pos h59]
        have k := (X98_intRegister T14 n14 hd (nI (fd w 14 12)) (nI (fd w 31 25))).2
        rw [v2, v3] at k
        exact Rn_Cv hc B hk k
      rw [fi_neg h59, fi_neg h59]
      by_cases h99 : nI (fd w 6 0) = Int32.ofInt 99
      · rw [fi_pos h99, fi_pos h99]
        dsimp only
        rw [(X98_branch T14 n14 (nI (fd w 14 12))).2, v1, v2, v3, v4, v5]
        by_cases q : nI (fd w 14 12) = Int32.ofInt 2 ∨ nI (fd w 14 12) = Int32.ofInt 3
        · rw [fi_pos q, fi_pos q]
          exact ⟨rfl, Cv_ill hc B⟩
        · rw [fi_neg q, fi_neg q]
          exact ⟨rfl, Cv_go hc B _⟩
      rw [fi_neg h99, fi_neg h99]
      by_cases h103 : nI (fd w 6 0) = Int32.ofInt 103
      · rw [fi_pos h103, fi_pos h103]
        by_cases q : nI (fd w 14 12) = 0
        · rw [fi_pos q, fi_pos q]
          dsimp only
          rw [(iI' _).2]
          dsimp only
          rw [(iI' _).2]
          dsimp only
          rw [px, v4, v5]
          exact ⟨rfl, Cv_putgo hc B hk _ _⟩
        · rw [fi_neg q, fi_neg q]
          exact ⟨rfl, Cv_ill hc B⟩
      rw [fi_neg h103, fi_neg h103]
      by_cases h111 : nI (fd w 6 0) = Int32.ofInt 111
      · rw [fi_pos h111, fi_pos h111]
        dsimp only
        rw [(iJ' _).2]
        dsimp only
        rw [pp, v4, v5]
        exact ⟨rfl, Cv_putgo hc B hk _ _⟩
      rw [fi_neg h111, fi_neg h111]
      dsimp only
      by_cases h15 : nI (fd w 6 0) = Int32.ofInt 15
      · rw [fi_pos h15, h15, X98_others_f]
        by_cases q : Int32.ofInt 2 ≤ nI (fd w 14 12)
        · rw [fi_pos q, fi_pos q]
          exact ⟨rfl, Cv_ill hc B⟩
        · rw [fi_neg q, fi_neg q]
          refine ⟨rfl, ?_⟩
          have k := Cv_done hc B (k := 0) (by decide) (Int64.ofInt 0)
          exact k
      · rw [fi_neg h15]
        have k := X98_others T14 n14 (nI (fd w 6 0)) (nI (fd w 11 7)) (nI (fd w 14 12)) h15
        rw [v1, v2, v3] at k
        exact Rw_Cv hc hn hm B k
    rw [eG]
    exact ⟨_, Prod.ext key.1 rfl, key.2⟩
