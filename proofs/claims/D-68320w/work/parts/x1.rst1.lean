/-! start: what the twin's resets write, one by one -/
set_option maxRecDepth 100000
noncomputable def rzI (H : Nat) (M : FM) (j : Nat) : FM := ((fun f a i => if f = 3 ∧ a = H ∧ i < j then Int32.ofInt 0 else M.1 f a i), M.2)
theorem rzI_0 (H : Nat) (M : FM) : rzI H M 0 = M := by
  refine Prod.ext ?_ rfl
  funext f a i
  exact if_neg (fun z => absurd z.2.2 (Nat.not_lt_zero _))
theorem rzI_s (H : Nat) (M : FM) (j : Nat) : fm_sI (rzI H M j) 3 H j (Int32.ofInt 0) = rzI H M (j + 1) := by
  refine Prod.ext ?_ rfl
  funext f a i
  show (if f = 3 ∧ a = H ∧ i = j then Int32.ofInt 0 else (if f = 3 ∧ a = H ∧ i < j then Int32.ofInt 0 else M.1 f a i)) = (if f = 3 ∧ a = H ∧ i < j + 1 then Int32.ofInt 0 else M.1 f a i)
  by_cases h : f = 3 ∧ a = H
  · by_cases q : i = j
    · rw [if_pos ⟨h.1, h.2, q⟩, if_pos ⟨h.1, h.2, by omega⟩]
    · rw [if_neg (fun z => q z.2.2)]
      by_cases l : i < j
      · rw [if_pos ⟨h.1, h.2, l⟩, if_pos ⟨h.1, h.2, by omega⟩]
      · rw [if_neg (fun z => l z.2.2), if_neg (fun z => by have := z.2.2; omega)]
  · rw [if_neg (fun z => h ⟨z.1, z.2.1⟩), if_neg (fun z => h ⟨z.1, z.2.1⟩), if_neg (fun z => h ⟨z.1, z.2.1⟩)]
theorem rzI_ty {H j : Nat} {M : FM} (T : Ty M) : Ty (rzI H M j) := by
  refine ⟨T.1, fun f hf a i => ?_, fun a i h => ?_⟩
  · show (if f = 3 ∧ a = H ∧ i < j then Int32.ofInt 0 else M.1 f a i) = 0 ∨ (if f = 3 ∧ a = H ∧ i < j then Int32.ofInt 0 else M.1 f a i) = 1
    split
    · exact Or.inl rfl
    · exact T.2.1 f hf a i
  · show (if 3 = 3 ∧ a = H ∧ i < j then Int32.ofInt 0 else M.1 3 a i) = 0 ∨ (if 3 = 3 ∧ a = H ∧ i < j then Int32.ofInt 0 else M.1 3 a i) = 1
    split
    · exact Or.inl rfl
    · exact T.2.2 a i h
theorem rz_ty {H j : Nat} {M : FM} (T : Ty M) : Ty (rz H M j) := ⟨T.1, T.2⟩
/-- the core, the floats, the desk, the walk: as they are reset -/
noncomputable def rsCo (H c : Nat) (e : Int64) (M : FM) : FM := fm_sI (fm_sL (rz H M 32) 347 c 0 e) 353 c 0 (Int32.ofInt (-1))
noncomputable def rsFl (H f : Nat) (M : FM) : FM := fm_sI (fm_sL (fm_sI (fm_sI (rz H M 32) 368 f 0 (Int32.ofInt 0)) 369 f 0 (Int32.ofInt 0)) 370 f 0 (Int64.ofInt 0)) 371 f 0 (Int32.ofInt 0)
noncomputable def rsDe (H d : Nat) (M : FM) : FM := fm_sL (fm_sL (fm_sI (rz H M 4096) 360 d 0 (Int32.ofInt 3)) 364 d 0 (Int64.ofInt 0)) 365 d 0 (Int64.ofInt 0)
noncomputable def rsWk (H I : Nat) (M : FM) : FM := rz H (rzI I M 8) 8
section Sr
variable {c f w d : Nat} {M : FM}
theorem sr_coL (T : Ty M) (n : fm_is M 94 94 c = true) (e : Int64) : ∀ m j, m < j → m ≤ 32 → FX98_reset_L2 fN j c e (nI (32 - m)) (rz (M.2.2 346 c 0) M (32 - m)) = some (rsCo (M.2.2 346 c 0) c e M) := by
  intro m
  induction m with
  | zero =>
    intro j hj hm
    obtain ⟨j, rfl⟩ : ∃ i, j = i + 1 := ⟨j - 1, by omega⟩
    show FX98_reset_2 fN (FX98_reset_L2 fN j) _ _ _ _ = _
    have h : Int32.ofInt 32 ≤ nI (32 - 0) := by decide
    rw [(gX98_reset_2 _ _ _ _ (rz (M.2.2 346 c 0) M (32 - 0)) (rz_ty T) n ⟨fun _ => trivial, fun q => absurd h q⟩).1]
    unfold GX98_reset_2
    rw [fi_pos h]
    rfl
  | succ m ih =>
    intro j hj hm
    obtain ⟨j, rfl⟩ : ∃ i, j = i + 1 := ⟨j - 1, by omega⟩
    have hle : ¬ Int32.ofInt 32 ≤ nI (32 - (m + 1)) := fun q => by have := (nge (n := 32 - (m + 1)) (by omega) 32 (by decide)).mp q; omega
    have hin : fm_in (rz (M.2.2 346 c 0) M (32 - (m + 1))) (M.2.2 346 c 0) (nI (32 - (m + 1))) = true := in_nI (tL_346 T.1 n) (by omega) (by decide)
    show FX98_reset_2 fN (FX98_reset_L2 fN j) _ _ _ _ = _
    rw [(gX98_reset_2 _ _ _ _ (rz (M.2.2 346 c 0) M (32 - (m + 1))) (rz_ty T) n ⟨fun q => absurd q hle, fun _ => ⟨hin, trivial⟩⟩).1]
    unfold GX98_reset_2
    rw [fi_neg hle]
    try dsimp only
    rw [o_cl (by omega), up_1 (by omega), show 32 - (m + 1) + 1 = 32 - m by omega]
    show FX98_reset_L2 fN j c e (nI (32 - m)) (fm_sL (rz (M.2.2 346 c 0) M (32 - (m + 1))) 3 (M.2.2 346 c 0) (32 - (m + 1)) (Int64.ofInt 0)) = _
    rw [rz_s, show 32 - (m + 1) + 1 = 32 - m by omega]
    exact ih j (by omega) (by omega)
theorem sr_core (T : Ty M) (n : fm_is M 94 94 c = true) (e : Int64) : HX98_reset c e M ∧ GX98_reset c e M = rsCo (M.2.2 346 c 0) c e M := by
  have k1 : FX98_reset fN c e M = some (rsCo (M.2.2 346 c 0) c e M) := by
    show FX98_reset_0 fN (FX98_reset_L2 fN fN) c e M = _
    rw [(gX98_reset_0 _ _ _ M T).1]
    show FX98_reset_L2 fN fN c e (nI 0) M = _
    have h := sr_coL T n e 32 fN (by unfold fN; omega) (Nat.le_refl _)
    rw [show 32 - 32 = 0 from rfl, rz_0] at h
    exact h
  exact op_of (P := OkV M) (d := M) k1 ⟨⟨T.1, tyb_sI (f := 353) rfl (M := fm_sL (rz (M.2.2 346 c 0) M 32) 347 c 0 e) T.2⟩, ext_r _⟩
theorem sr_flL (T : Ty M) (n : fm_is M 96 96 f = true) : ∀ m j, m < j → m ≤ 32 → FX99_reset_L2 fN j f (nI (32 - m)) (rz (M.2.2 367 f 0) M (32 - m)) = some (rsFl (M.2.2 367 f 0) f M) := by
  intro m
  induction m with
  | zero =>
    intro j hj hm
    obtain ⟨j, rfl⟩ : ∃ i, j = i + 1 := ⟨j - 1, by omega⟩
    show FX99_reset_2 fN (FX99_reset_L2 fN j) _ _ _ = _
    have h : Int32.ofInt 32 ≤ nI (32 - 0) := by decide
    rw [(gX99_reset_2 _ _ _ (rz (M.2.2 367 f 0) M (32 - 0)) (rz_ty T) n ⟨fun _ => trivial, fun q => absurd h q⟩).1]
    unfold GX99_reset_2
    rw [fi_pos h]
    rfl
  | succ m ih =>
    intro j hj hm
    obtain ⟨j, rfl⟩ : ∃ i, j = i + 1 := ⟨j - 1, by omega⟩
    have hle : ¬ Int32.ofInt 32 ≤ nI (32 - (m + 1)) := fun q => by have := (nge (n := 32 - (m + 1)) (by omega) 32 (by decide)).mp q; omega
    have hin : fm_in (rz (M.2.2 367 f 0) M (32 - (m + 1))) (M.2.2 367 f 0) (nI (32 - (m + 1))) = true := in_nI (tL_367 T.1 n) (by omega) (by decide)
    show FX99_reset_2 fN (FX99_reset_L2 fN j) _ _ _ = _
    rw [(gX99_reset_2 _ _ _ (rz (M.2.2 367 f 0) M (32 - (m + 1))) (rz_ty T) n ⟨fun q => absurd q hle, fun _ => ⟨hin, trivial⟩⟩).1]
    unfold GX99_reset_2
    rw [fi_neg hle]
    try dsimp only
    rw [o_cl (by omega), up_1 (by omega), show 32 - (m + 1) + 1 = 32 - m by omega]
    show FX99_reset_L2 fN j f (nI (32 - m)) (fm_sL (rz (M.2.2 367 f 0) M (32 - (m + 1))) 3 (M.2.2 367 f 0) (32 - (m + 1)) (Int64.ofInt 0)) = _
    rw [rz_s, show 32 - (m + 1) + 1 = 32 - m by omega]
    exact ih j (by omega) (by omega)
theorem rsFl_ty {H : Nat} (T : Ty M) : Ty (rsFl H f M) := ⟨T.1, tyb_sIb (f := 371) rfl (M := fm_sL (fm_sI (fm_sI (rz H M 32) 368 f 0 (Int32.ofInt 0)) 369 f 0 (Int32.ofInt 0)) 370 f 0 (Int64.ofInt 0)) (tyb_sI (f := 369) rfl (tyb_sI (f := 368) rfl (M := rz H M 32) T.2)) (Or.inl rfl)⟩
theorem sr_float (T : Ty M) (n : fm_is M 96 96 f = true) : HX99_reset f M ∧ GX99_reset f M = rsFl (M.2.2 367 f 0) f M := by
  have k1 : FX99_reset fN f M = some (rsFl (M.2.2 367 f 0) f M) := by
    show FX99_reset_0 fN (FX99_reset_L2 fN fN) f M = _
    rw [(gX99_reset_0 _ _ M T).1]
    show FX99_reset_L2 fN fN f (nI 0) M = _
    have h := sr_flL T n 32 fN (by unfold fN; omega) (Nat.le_refl _)
    rw [show 32 - 32 = 0 from rfl, rz_0] at h
    exact h
  exact op_of (P := OkV M) (d := M) k1 ⟨rsFl_ty T, ext_r _⟩
theorem sr_desk (T : Ty M) (n : fm_is M 95 95 d = true) : HX100_reset d M ∧ GX100_reset d M = rsDe (M.2.2 361 d 0) d M := t_reset T n
theorem sr_wkL (T : Ty M) (n : fm_is M 101 101 w = true) : ∀ m j, m < j → m ≤ 8 → FX101_reset_L2 fN j w (nI (8 - m)) (rz (M.2.2 428 w 0) (rzI (M.2.2 427 w 0) M (8 - m)) (8 - m)) = some (rsWk (M.2.2 428 w 0) (M.2.2 427 w 0) M) := by
  intro m
  induction m with
  | zero =>
    intro j hj hm
    obtain ⟨j, rfl⟩ : ∃ i, j = i + 1 := ⟨j - 1, by omega⟩
    show FX101_reset_2 fN (FX101_reset_L2 fN j) _ _ _ = _
    have h : Int32.ofInt 8 ≤ nI (8 - 0) := by decide
    rw [(gX101_reset_2 _ _ _ (rz (M.2.2 428 w 0) (rzI (M.2.2 427 w 0) M (8 - 0)) (8 - 0)) (rz_ty (rzI_ty T)) n ⟨fun _ => trivial, fun q => absurd h q⟩).1]
    unfold GX101_reset_2
    rw [fi_pos h]
    rfl
  | succ m ih =>
    intro j hj hm
    obtain ⟨j, rfl⟩ : ∃ i, j = i + 1 := ⟨j - 1, by omega⟩
    have hle : ¬ Int32.ofInt 8 ≤ nI (8 - (m + 1)) := fun q => by have := (nge (n := 8 - (m + 1)) (by omega) 8 (by decide)).mp q; omega
    have i1 : fm_in (rz (M.2.2 428 w 0) (rzI (M.2.2 427 w 0) M (8 - (m + 1))) (8 - (m + 1))) (M.2.2 427 w 0) (nI (8 - (m + 1))) = true := in_nI (tL_427 T.1 n) (by omega) (by decide)
    have i2 : fm_in (rz (M.2.2 428 w 0) (rzI (M.2.2 427 w 0) M (8 - (m + 1))) (8 - (m + 1))) (M.2.2 428 w 0) (nI (8 - (m + 1))) = true := in_nI (tL_428 T.1 n) (by omega) (by decide)
    show FX101_reset_2 fN (FX101_reset_L2 fN j) _ _ _ = _
    rw [(gX101_reset_2 _ _ _ (rz (M.2.2 428 w 0) (rzI (M.2.2 427 w 0) M (8 - (m + 1))) (8 - (m + 1))) (rz_ty (rzI_ty T)) n ⟨fun q => absurd q hle, fun _ => ⟨i1, i2, trivial⟩⟩).1]
    unfold GX101_reset_2
    rw [fi_neg hle]
    try dsimp only
    rw [o_cl (by omega), up_1 (by omega), show 8 - (m + 1) + 1 = 8 - m by omega]
    show FX101_reset_L2 fN j w (nI (8 - m)) (fm_sL (rz (M.2.2 428 w 0) (fm_sI (rzI (M.2.2 427 w 0) M (8 - (m + 1))) 3 (M.2.2 427 w 0) (8 - (m + 1)) (Int32.ofInt 0)) (8 - (m + 1))) 3 (M.2.2 428 w 0) (8 - (m + 1)) (Int64.ofInt 0)) = _
    rw [rz_s, rzI_s, show 8 - (m + 1) + 1 = 8 - m by omega]
    exact ih j (by omega) (by omega)
theorem sr_walk (T : Ty M) (n : fm_is M 101 101 w = true) : HX101_reset w M ∧ GX101_reset w M = rsWk (M.2.2 428 w 0) (M.2.2 427 w 0) M := by
  have k1 : FX101_reset fN w M = some (rsWk (M.2.2 428 w 0) (M.2.2 427 w 0) M) := by
    show FX101_reset_0 fN (FX101_reset_L2 fN fN) w M = _
    rw [(gX101_reset_0 _ _ M T).1]
    show FX101_reset_L2 fN fN w (nI 0) M = _
    have h := sr_wkL T n 8 fN (by unfold fN; omega) (Nat.le_refl _)
    rw [show 8 - 8 = 0 from rfl, rzI_0, rz_0] at h
    exact h
  exact op_of (P := OkV M) (d := M) k1 ⟨rz_ty (rzI_ty T), ext_r _⟩
/-- a register is set -/
noncomputable def stR (H c k : Nat) (v : Int64) (M : FM) : FM := fm_sL (fm_sI M 345 c 0 (Int32.ofInt 0)) 3 H k v
theorem sr_set (T : Ty M) (n : fm_is M 94 94 c = true) {k : Nat} (hk : 0 < k ∧ k < 32) (v : Int64) : HX98_set c (nI k) v M ∧ GX98_set c (nI k) v M = stR (M.2.2 346 c 0) c k v M := by
  have k0 : ¬ nI k < 0 := nI0 (by omega)
  have k32 : ¬ Int32.ofInt 32 ≤ nI k := fun q => by have := (nge (n := k) (by omega) 32 (by decide)).mp q; omega
  have kp : ¬ nI k ≤ 0 := fun q => by have := (nI_le0 (n := k) (by omega)).mp q; omega
  have ir : GX98_isRegister (nI k) M = (Int32.ofInt 1, M) := by
    unfold GX98_isRegister GX98_isRegister_0 GX98_isRegister_15
    rw [fi_neg k0, fi_neg k32]
  have e0 : (fm_sI M 345 c 0 (Int32.ofInt 0)).1 345 c 0 = 0 := by rw [rI, if_pos ⟨rfl, rfl, rfl⟩]; rfl
  have i0 : ¬ Int32.ofInt 1 = 0 := by decide
  have inn : fm_in (fm_sI M 345 c 0 (Int32.ofInt 0)) (M.2.2 346 c 0) (nI k) = true := in_nI (tL_346 T.1 n) hk.2 (by decide)
  constructor
  · unfold HX98_set HX98_set_0
    try dsimp only
    rw [ir]
    exact ⟨fun y => absurd y i0, fun _ => ⟨fun _ => ⟨⟨fun y => absurd y kp, fun _ => ⟨inn, trivial⟩⟩, trivial⟩, fun _ => trivial⟩⟩
  · unfold GX98_set GX98_set_0 GX98_set_13 GX98_set_29 GX98_put GX98_put_0 GX98_put_11
    try dsimp only
    rw [ir]
    try dsimp only
    rw [fi_neg i0, fi_pos e0, fi_neg kp, o_cl (by omega)]
    rfl
end Sr
