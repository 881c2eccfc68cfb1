/-! control registers: writes are the same on both sides -/
set_option maxRecDepth 100000
theorem sL_self (M : FM) (f a i : Nat) : fm_sL M f a i (M.2.1 f a i) = M := by
  unfold fm_sL
  refine Prod.ext rfl (Prod.ext ?_ rfl)
  funext f' a' i'
  show (if f' = f ∧ a' = a ∧ i' = i then M.2.1 f a i else M.2.1 f' a' i') = M.2.1 f' a' i'
  by_cases h : f' = f ∧ a' = a ∧ i' = i
  · rw [if_pos h, h.1, h.2.1, h.2.2]
  · rw [if_neg h]
section Wr
variable {u d n x : Nat} {k : Int32} {Mc Mt M : FM} {v : Int64}
def okW (n : Nat) (a : Int64) : Prop := (n = 768 → tw a 11 ≠ Int32.ofInt 2 ∧ mkS a) ∧ (n = 833 ∨ n = 321 → lb a 0 = false) ∧ (n = 384 → ul a / 2 ^ 60 = 0 ∨ ul a / 2 ^ 60 = 8 ∨ ul a / 2 ^ 60 = 9)
theorem ht_w {a : Int64} {m : Nat} : ht (fm_sL Mt 3 (Mt.2.2 361 d 0) n a) d m = if m = n then a else ht Mt d m := by
  show (fm_sL Mt 3 (Mt.2.2 361 d 0) n a).2.1 3 (Mt.2.2 361 d 0) m = _
  rw [rL]
  by_cases h : m = n
  · rw [if_pos h, if_pos ⟨rfl, rfl, h⟩]
  · rw [if_neg h, if_neg (fun z => h z.2.2)]
theorem relC_w1 (R : RelC u d k Mc Mt) (hn : cN n) (a : Int64) (ok : okW n a) (Tc : Ty (fm_sL Mc 41 (tbl Mc u n) 0 a)) (Tt : Ty (fm_sL Mt 3 (Mt.2.2 361 d 0) n a)) : RelC u d k (fm_sL Mc 41 (tbl Mc u n) 0 a) (fm_sL Mt 3 (Mt.2.2 361 d 0) n a) := by
  have R0 := R
  obtain ⟨⟨-, nu, S, K⟩, ⟨-, nd, ⟨z1, z2⟩, I1, I2, I3, I4, I5⟩, v1, vl, vm, vc⟩ := R
  have q := stg_w S (stg_0 (d := d) v1) hn rfl (H := Mt.2.2 361 d 0) rfl a
  refine relC_of R0 q.2.1 q.2.2 q.1 vm ⟨?_, ?_, ?_, ?_, ?_⟩ Tc Tt (fun m hm => ?_)
  · rw [ht_w]
    by_cases h : 768 = n
    · rw [if_pos h]; exact (ok.1 h.symm).1
    · rw [if_neg h]; exact I1
  · rw [ht_w]
    by_cases h : 833 = n
    · rw [if_pos h]; exact ok.2.1 (Or.inl h.symm)
    · rw [if_neg h]; exact I2
  · rw [ht_w]
    by_cases h : 321 = n
    · rw [if_pos h]; exact ok.2.1 (Or.inr h.symm)
    · rw [if_neg h]; exact I3
  · rw [ht_w]
    by_cases h : 384 = n
    · rw [if_pos h]; exact ok.2.2 h.symm
    · rw [if_neg h]; exact I4
  · rw [ht_w]
    by_cases h : 768 = n
    · rw [if_pos h]; exact (ok.1 h.symm).2
    · rw [if_neg h]; exact I5
  · rw [ht_w, if_neg]
    rintro rfl
    obtain ⟨q, hq, e⟩ := hn
    have := (show ∀ m ∈ [3857, 3858, 3859, 3861], ∀ q ∈ cH, q.1 ≠ m by decide) m hm q hq
    exact this e
theorem kind_i (v : Int64) : ui ((v.toUInt64 >>> ((Int32.ofInt 60).toInt64.toUInt64 &&& Int64.toUInt64 63)).toInt64).toInt32 = ul v / 2 ^ 60 := by
  have h := ul_ushr v (Int32.ofInt 60)
  rw [show ui (Int32.ofInt 60) % 64 = 60 from rfl] at h
  rw [ui_low, h]
  have := ul_lt v
  omega
theorem kind_l (v : Int64) : ul ((v >>> ((Int32.ofInt 60).toInt64 &&& 63)) &&& Int64.ofInt 15) = ul v / 2 ^ 60 := by
  have hv := ul_lt v
  have e : ((v >>> ((Int32.ofInt 60).toInt64 &&& 63)) &&& Int64.ofInt 15) = (v.toUInt64 >>> ((Int32.ofInt 60).toInt64.toUInt64 &&& Int64.toUInt64 63)).toInt64 := by
    refine lb_ext fun i hi => ?_
    rw [lb_and, lb_sar (k := 60) _ _ rfl i hi, lb_ushr (k := 60) _ _ rfl, lb_mask (Int64.ofInt 15) (k := 4) rfl i]
    by_cases h : i < 4
    · rw [if_pos (by omega), decide_eq_true h, Bool.and_true]
    · rw [decide_eq_false h, Bool.and_false, lb_ge v (by omega)]
  rw [e]
  exact ul_ushr v (Int32.ofInt 60)
abbrev kndP (v : Int64) : Prop := ul v / 2 ^ 60 = 0 ∨ ul v / 2 ^ 60 = 8 ∨ ul v / 2 ^ 60 = 9
theorem c82_write (h : M.2.1 42 x 0 = Int64.ofInt (-1)) : GX82_write x v M = fm_sL M 41 x 0 (fi (kndP v) v (M.2.1 41 x 0)) := by
  have hk := kind_i v
  have e : ∀ c : Int32, (((v.toUInt64 >>> ((Int32.ofInt 60).toInt64.toUInt64 &&& Int64.toUInt64 63)).toInt64).toInt32 = c ↔ ul v / 2 ^ 60 = ui c) := fun c => by
    rw [← hk]
    exact ⟨congrArg ui, ui_inj⟩
  have w : GX77_write x v M = fm_sL M 41 x 0 v := by
    show fm_sL M 41 x 0 (thv (M.2.1 41 x 0) (M.2.1 42 x 0) v) = _
    rw [h]
    exact congrArg (fm_sL M 41 x 0) (thr_all _ v)
  unfold GX82_write GX82_write_0 GX82_write_22 GX82_write_27
  dsimp only
  rw [w]
  by_cases h0 : ul v / 2 ^ 60 = 0
  · rw [fi_pos ((e (0)).mpr h0), fi_pos (show kndP v from Or.inl h0)]
  · rw [fi_neg (fun z => h0 ((e (0)).mp z))]
    by_cases h8 : ul v / 2 ^ 60 = 8
    · rw [fi_pos ((e (Int32.ofInt 8)).mpr h8), fi_pos (show kndP v from Or.inr (Or.inl h8))]
    · rw [fi_neg (fun z => h8 ((e (Int32.ofInt 8)).mp z))]
      by_cases h9 : ul v / 2 ^ 60 = 9
      · rw [fi_pos ((e (Int32.ofInt 9)).mpr h9), fi_pos (show kndP v from Or.inr (Or.inr h9))]
      · rw [fi_neg (fun z => h9 ((e (Int32.ofInt 9)).mp z)), fi_neg (show ¬ kndP v from fun z => z.elim h0 (fun y => y.elim h8 h9)), sL_self]
theorem thr_non (x v : Int64) : thv x (Int64.ofInt 0) v = x := lb_ext fun i hi => by
  rw [thv_b _ _ _ i hi, lb_0, if_neg (by decide)]
theorem t384 : GX100_write d (nI 384) v M = fm_sL M 3 (M.2.2 361 d 0) 384 (fi (kndP v) v (ht M d 384)) := by
  have hk := kind_l v
  have e : ∀ c : Int64, (lg_cmp ((v >>> ((Int32.ofInt 60).toInt64 &&& 63)) &&& Int64.ofInt 15) c = 0 ↔ ul v / 2 ^ 60 = ul c) := fun c => by rw [cl_eq, hk]
  have w1 : GX100_write_342 v d (nI 384) (Int64.ofInt (-1)) M = fm_sL M 3 (M.2.2 361 d 0) 384 v := by
    unfold GX100_write_342
    dsimp only
    rw [t_through (n := 384) rfl]
    exact congrArg (fm_sL M 3 (M.2.2 361 d 0) 384) (thr_all _ v)
  have w0 : GX100_write_342 v d (nI 384) (Int64.ofInt 0) M = fm_sL M 3 (M.2.2 361 d 0) 384 (ht M d 384) := by
    unfold GX100_write_342
    dsimp only
    rw [t_through (n := 384) rfl, thr_non]
    rfl
  unfold GX100_write GX100_write_0
  repeat rw [fi_neg (by decide)]
  rw [fi_pos (by decide)]
  unfold GX100_write_335
  dsimp only
  rw [w1, w0]
  by_cases h0 : ul v / 2 ^ 60 = 0
  · rw [fi_pos ((e (Int64.ofInt 0)).mpr h0), fi_pos (show kndP v from Or.inl h0)]
  · rw [fi_neg (fun z => h0 ((e (Int64.ofInt 0)).mp z))]
    by_cases h8 : ul v / 2 ^ 60 = 8
    · rw [fi_pos ((e (Int64.ofInt 8)).mpr h8), fi_pos (show kndP v from Or.inr (Or.inl h8))]
    · rw [fi_neg (fun z => h8 ((e (Int64.ofInt 8)).mp z))]
      by_cases h9 : ul v / 2 ^ 60 = 9
      · rw [fi_pos ((e (Int64.ofInt 9)).mpr h9), fi_pos (show kndP v from Or.inr (Or.inr h9))]
      · rw [fi_neg (fun z => h9 ((e (Int64.ofInt 9)).mp z)), fi_neg (show ¬ kndP v from fun z => z.elim h0 (fun y => y.elim h8 h9))]
theorem t768w (T : Ty M) : GX100_write d (nI 768) v M = fm_sL M 3 (M.2.2 361 d 0) 768 (stW (ht M d 768) (Int64.ofInt 8288682) v) := by
  unfold GX100_write GX100_write_0
  repeat rw [fi_neg (by decide)]
  rw [fi_pos (by decide)]
  dsimp only
  rw [(X100_statusSeen _ M T).2, ssv_1]
  exact t_wstatus _
theorem t256w (T : Ty M) : GX100_write d (nI 256) v M = fm_sL M 3 (M.2.2 361 d 0) 768 (stW (ht M d 768) (Int64.ofInt 811298) v) := by
  unfold GX100_write GX100_write_0
  rw [fi_pos (by decide)]
  dsimp only
  rw [(X100_statusSeen _ M T).2, ssv_0]
  exact t_wstatus _
theorem t260w : GX100_write d (nI 260) v M = fm_sL M 3 (M.2.2 361 d 0) 772 (thv (ht M d 772) (ht M d 771) v) := by
  unfold GX100_write GX100_write_0
  rw [fi_neg (by decide), fi_pos (by decide)]
  rfl
theorem t324w : GX100_write d (nI 324) v M = fm_sL M 3 (M.2.2 361 d 0) 836 (thv (ht M d 836) (ht M d 771 &&& Int64.ofInt 2) v) := by
  unfold GX100_write GX100_write_0
  repeat rw [fi_neg (by decide)]
  rw [fi_pos (by decide)]
  rfl
theorem t769w : GX100_write d (nI 769) v M = M := by
  unfold GX100_write GX100_write_0
  repeat rw [fi_neg (by decide)]
  rw [fi_pos (by decide)]
  rfl
theorem t_writeH (T : Ty M) (nd : fm_is M 95 95 d = true) (hn : n < 4096) : HX100_write d (nI n) v M := by
  have hi : ∀ {a : Int32}, ui a < 4096 → fm_in M (M.2.2 361 d 0) a = true := fun h => h361 T nd h
  have hN : fm_in M (M.2.2 361 d 0) (nI n) = true := hi (by rw [ui_nI]; omega)
  have th : ∀ {a : Int32} {m : Int64}, ui a < 4096 → HX100_through d a m v M := fun h => ⟨hi h, hi h, trivial⟩
  have thN : ∀ {m : Int64}, HX100_through d (nI n) m v M := ⟨hN, hN, trivial⟩
  have ws : ∀ {m : Int64}, HX100_writeStatus d m v M := fun {m} => by
    unfold HX100_writeStatus HX100_writeStatus_0
    rw [X100_below]
    exact ⟨th (by decide), trivial⟩
  have ss : ∀ a, GX100_statusSeen a M = (ssv a 23, M) := fun a => (X100_statusSeen a M T).2
  unfold HX100_write HX100_write_0
  rw [ss, ss]
  exact ⟨fun _ => ⟨(X100_statusSeen _ M T).1, ws, trivial⟩, fun _ => ⟨fun _ => ⟨th (by decide), trivial⟩, fun _ => ⟨fun _ => ⟨thN, trivial⟩, fun _ => ⟨fun _ => ⟨thN, trivial⟩, fun _ => ⟨fun _ => ⟨thN, trivial⟩, fun _ => ⟨fun _ => ⟨th (by decide), trivial⟩, fun _ => ⟨fun _ => ⟨fun _ => ⟨thN, trivial⟩, fun _ => ⟨fun _ => ⟨thN, trivial⟩, fun _ => ⟨fun _ => ⟨thN, trivial⟩, fun _ => ⟨thN, trivial⟩⟩⟩⟩, fun _ => ⟨fun _ => ⟨(X100_statusSeen _ M T).1, ws, trivial⟩, fun _ => ⟨fun _ => trivial, fun _ => ⟨fun _ => ⟨th (by decide), trivial⟩, fun _ => ⟨fun _ => ⟨th (by decide), trivial⟩, fun _ => ⟨fun _ => ⟨th (by decide), trivial⟩, fun _ => ⟨fun _ => ⟨thN, trivial⟩, fun _ => ⟨fun _ => ⟨thN, trivial⟩, fun _ => ⟨fun _ => ⟨thN, trivial⟩, fun _ => ⟨fun _ => ⟨th (by decide), trivial⟩, fun _ => ⟨hN, trivial⟩⟩⟩⟩⟩⟩⟩⟩⟩⟩⟩⟩⟩⟩⟩⟩⟩
end Wr
