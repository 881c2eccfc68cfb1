/-! plain instructions -/
theorem fs_rv_c (E : FE) (a : Nat) : (a = 0 ∧ fs_rv E a = .null) ∨ (a ≠ 0 ∧ fs_rv E a = .ref (fs_ra E a)) := by
  unfold fs_rv
  by_cases h : a = 0
  · exact Or.inl ⟨h, if_pos h⟩
  · exact Or.inr ⟨h, if_neg h⟩
theorem fs_map_ref {E : FE} {a : Nat} {v : Value} (h : fs_rv E a = v) (st : List Value) : (Value.ref a :: st).map (fs_tr E) = v :: st.map (fs_tr E) := by
  rw [← h]
  rfl
def fs_op (E : FE) (a : Nat) : Option Nat := if a = 0 then none else some (fs_ra E a)
theorem fs_op_rf (E : FE) (a : Nat) : fs_rv E a = va_rf (fs_op E a) := by
  unfold fs_rv fs_op
  by_cases h : a = 0 <;> simp [h, va_rf]
theorem fs_op_eq {E : FE} (hE : fs_good E) {x y : Nat} (h : x < 42 ∧ y < 42 ∨ 1000 ≤ x ∨ 1000 ≤ y) : fs_op E x = fs_op E y ↔ x = y := by
  constructor
  · intro e
    unfold fs_op at e
    by_cases hx : x = 0
    · by_cases hy : y = 0
      · rw [hx, hy]
      · rw [if_pos hx, if_neg hy] at e
        cases e
    · by_cases hy : y = 0
      · rw [if_neg hx, if_pos hy] at e
        cases e
      · rw [if_neg hx, if_neg hy] at e
        have e := Option.some.inj e
        unfold fs_ra at e
        by_cases h1 : x < 1000
        · by_cases h2 : y < 1000
          · rw [if_pos h1, if_pos h2] at e
            exact hE.2.1 x y (by omega) (by omega) (by omega) (by omega) e
          · rw [if_pos h1, if_neg h2] at e
            have := hE.1 x h1
            omega
        · by_cases h2 : y < 1000
          · rw [if_neg h1, if_pos h2] at e
            have := hE.1 y h2
            omega
          · rw [if_neg h1, if_neg h2] at e
            omega
  · intro e
    rw [e]
theorem fm_is_d {M : FM} {lo hi a : Nat} (h : fm_is M lo hi a = true) : lo ≤ M.2.2 0 a 0 ∧ M.2.2 0 a 0 ≤ hi := by
  unfold fm_is at h
  simpa using h
theorem fm_inw {M : FM} {a : Nat} {i : Int32} (h : fm_in M a i = true) : ¬ i < 0 ∧ i.toNatClampNeg < M.2.2 1 a 0 := by
  unfold fm_in at h
  simpa using h
section FsP
variable {E : FE} {p : Program} {l : Launch} {e : Env} {R : Room} {s : State} {m : MethodId} {args : Array Value} {below : List Frame} {meth : Method} {c : Code} {nL NF SF N0 S0 : Nat} {Q : State → Prop} {cc : ByteArray} {own : String} {ret : Option FieldType} {S : FS}
theorem fs_rel {pc pc' : Nat} {L : fm_L} {st st' : List Value} {M : FM} (k : fs_G E p l e R s m args below meth c nL NF SF N0 S0 Q pc' L st' M)
    (h : ∀ (H : Heap) (ls : Array Slot) (locs : List Loc) (cells slots : Nat), fs_Rel E M H → lv_has ls nL (fs_lt E L) → W p l e R s m args below meth c H locs cells slots Q (F0 m pc' ls (st'.map (fs_tr E))) → W p l e R s m args below meth c H locs cells slots Q (F0 m pc ls (st.map (fs_tr E)))) : fs_G E p l e R s m args below meth c nL NF SF N0 S0 Q pc L st M :=
  ⟨k.1, fun H ls locs cells slots h1 h2 h3 h4 h5 => h _ _ _ _ _ h1 h2 (k.2 H ls locs cells slots h1 h2 h3 h4 h5)⟩
/-- an array of the memory, on the heap -/
theorem fs_arr {M : FM} {H : Heap} (hR : fs_Rel E M H) {lo hi a : Nat} (hlo : 900 ≤ lo) (h : fm_is M lo hi a = true) (hw : E.1.WarmedH s.vm) :
    ∃ (t : Nat) (cA : ClassId), lo ≤ t ∧ t ≤ hi ∧ M.2.2 0 a 0 = t ∧ ArrOfT s cA (E.2.2.2.2.2.2.1 t) ∧ H[fs_ra E a]? = some (arrV cA (M.2.2 1 a 0) (fs_av E M t a)) ∧ a ≠ 0 ∧ M.2.2 1 a 0 < 2 ^ 31 ∧ ArrOfT E.1 cA (E.2.2.2.2.2.2.1 t) ∧ va_RA E.1 cA (E.2.2.2.2.2.2.1 t) := by
  obtain ⟨h1, h2⟩ := fm_is_d h
  obtain ⟨hn, hlt, hc⟩ := hR.2.2.1 a (by omega)
  unfold fs_cell at hc
  rw [if_neg (by omega)] at hc
  obtain ⟨cA, q1, q2, q3, q4, -⟩ := hc
  exact ⟨_, cA, h1, h2, rfl, arrOfT_moved hw.alike q1, q3, hn, q4, q1, q2⟩
/-- bytes are bytes -/
theorem fs_arr_b {M : FM} {H : Heap} (hR : fs_Rel E M H) {a : Nat} (h : M.2.2 0 a 0 = 903) (j : Nat) : fits .byte (fs_av E M 903 a j) = true := by
  obtain ⟨hn, hlt, hc⟩ := hR.2.2.1 a (by omega)
  rw [h] at hc
  unfold fs_cell at hc
  rw [if_neg (by omega)] at hc
  obtain ⟨cA, q1, q2, q3, q4, q5⟩ := hc
  exact q5 rfl j
theorem fs_rv_ne {a : Nat} (h : a ≠ 0) : fs_rv E a = .ref (fs_ra E a) := if_neg h
theorem fs_vin {M : FM} {a : Nat} {i : Int32} (h : fm_in M a i = true) (cA : ClassId) (f : Nat → Value) : ¬ (i < 0 ∨ (arrV cA (M.2.2 1 a 0) f).slots.size ≤ i.toNatClampNeg) := by
  obtain ⟨h1, h2⟩ := fm_inw h
  rw [arrV_size]
  intro q
  rcases q with q | q
  · exact h1 q
  · omega
theorem fs_ald {lo hi k : Nat} {ins : Instr} {pc nx : Nat} (hlo : 901 ≤ lo) (hE : fs_good E) (hwm : E.1.WarmedH s.vm)
    (hs : ∀ (Rt : Type) (go : Nat → fm_L → List Value → FM → Option Rt) (kr : Option Value → FM → Option Rt) (L : fm_L) (st : List Value) (M : FM), fx_step S go kr ins pc nx L st M = fe_ald go lo hi k nx L st M)
    (hk : ∀ (M : FM) (t a j : Nat), lo ≤ t → t ≤ hi → fs_av E M t a j = (if k = 0 then .int (M.1 3 a j) else if k = 1 then .long (M.2.1 3 a j) else fs_rv E (M.2.2 3 a j)))
    (hw : ∀ (H : Heap) (ls : Array Slot) (locs : List Loc) (cells slots t : Nat) (a : Addr) (cell : Cell) (i : Int32) (v : Value) (rest : List Value), lo ≤ t → t ≤ hi → H[a]? = some cell → s.isArrayOf cell (E.2.2.2.2.2.2.1 t) → cell.vm ≠ .unknown → ¬ (i < 0 ∨ cell.slots.size ≤ i.toNatClampNeg) → cell.slots[i.toNatClampNeg]? = some v →
      W p l e R s m args below meth c H locs cells slots Q (F0 m nx ls (v :: rest)) → W p l e R s m args below meth c H locs cells slots Q (F0 m pc ls (.int i :: .ref a :: rest))) :
    fs_Snd S own cc ret nL E p l e R s m args below meth c NF SF N0 S0 Q pc nx ins := by
  intro Rt go kr r L st M h hgo hret
  rw [hs] at h
  unfold fe_ald at h
  simp only [fi_if] at h
  simp only [fe_bif] at h
  split at h
  · rename_i i a st'
    split at h
    · rename_i hq
      obtain ⟨hq1, hq2⟩ := hq
      have key : ∀ (H : Heap) (ls : Array Slot) (locs : List Loc) (cells slots : Nat), fs_Rel E M H → ∀ v : Value, v = (if k = 0 then Value.int (M.1 3 a i.toNatClampNeg) else if k = 1 then .long (M.2.1 3 a i.toNatClampNeg) else fs_rv E (M.2.2 3 a i.toNatClampNeg)) →
          W p l e R s m args below meth c H locs cells slots Q (F0 m nx ls (v :: st'.map (fs_tr E))) → W p l e R s m args below meth c H locs cells slots Q (F0 m pc ls ((.int i :: .ref a :: st').map (fs_tr E))) := by
        intro H ls locs cells slots hR v hv kk
        obtain ⟨t, cA, t1, t2, t3, t4, t5, t6, t7, -⟩ := fs_arr hR (by omega) hq1 hwm
        have e : ((Value.int i :: Value.ref a :: st').map (fs_tr E)) = .int i :: .ref (fs_ra E a) :: st'.map (fs_tr E) := by
          show Value.int i :: fs_rv E a :: _ = _
          rw [fs_rv_ne t6]
        rw [e]
        refine hw H ls locs cells slots t (fs_ra E a) _ i v _ t1 t2 t5 (t4 _ _) (by simp [arrV]) (fs_vin hq2 _ _) ?_ kk
        rw [arrV_read _ _ (fm_inw hq2).2, hk M t a _ t1 t2, hv]
      by_cases k0 : k = 0
      · rw [if_pos k0] at h
        exact fs_rel (hgo _ _ _ _ h) (fun H ls locs cells slots hR _ kk => key H ls locs cells slots hR _ (by rw [if_pos k0]; rfl) kk)
      · rw [if_neg k0] at h
        by_cases k1 : k = 1
        · rw [if_pos k1] at h
          exact fs_rel (hgo _ _ _ _ h) (fun H ls locs cells slots hR _ kk => key H ls locs cells slots hR _ (by rw [if_neg k0, if_pos k1]; rfl) kk)
        · rw [if_neg k1] at h
          exact fs_rel (hgo _ _ _ _ h) (fun H ls locs cells slots hR _ kk => key H ls locs cells slots hR _ (by rw [if_neg k0, if_neg k1]; rfl) kk)
    · cases h
  · cases h
end FsP
