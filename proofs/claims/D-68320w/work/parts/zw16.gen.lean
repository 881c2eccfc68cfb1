/-! helpers of the printed proofs -/
theorem fe_no {R : Type} {r : R} {P : Prop} (h : (none : Option R) = some r) : P := by cases h
theorem fe_bc {R : Type} {r : R} {b : Bool} {x y : Option R} (h : (bif b then x else y) = some r) : x = some r ∨ y = some r := by
  cases b
  · exact Or.inr h
  · exact Or.inl h
def fe_args : Nat → List Value → fm_L
  | _, [] => []
  | i, v :: vs => (i, v) :: fe_args (if v.category = 2 then i + 2 else i + 1) vs
theorem fe_args_e (E : FE) : ∀ (As : List Value) (k : Nat), fs_lt E (fe_args k As) = lv_args k (As.map (fs_tr E)) := by
  intro As
  induction As with
  | nil => intro k; rfl
  | cons v t ih =>
    intro k
    show (k, fs_tr E v) :: fs_lt E (fe_args _ t) = (k, fs_tr E v) :: lv_args _ _
    rw [ih, fs_tr_cat]
theorem fe_slen (E : FE) : ∀ As : List Value, (lg_sl (As.map (fs_tr E))).length = (As.map fun v => if v.category = 2 then 2 else 1).sum := by
  intro As
  induction As with
  | nil => rfl
  | cons v t ih =>
    show (List.flatMap _ (fs_tr E v :: t.map (fs_tr E))).length = _
    rw [List.flatMap_cons, List.length_append, List.map_cons, List.sum_cons, ← ih, fs_tr_cat]
    congr 1
    split <;> rfl
theorem fs_sameF {args : Array Value} {s : State} {ref O n d : String} (h : (Cond.sameField ref O n d).before args s = true) : ∀ x, s.fieldFound? O n d = some x → s.fieldFound? ref n d = some x := by
  intro x hx
  cases hr : s.fieldFound? ref n d with
  | none => simp [Cond.before, Cond.holds, Cond.value, hr] at h
  | some y =>
    obtain ⟨c1, k1, i1, f1⟩ := y
    rw [Cond.sameField_spec hr h] at hx
    exact hx
section FsGn
variable {E : FE} {p : Program} {l : Launch} {e : Env} {R : Room} {s : State} {m : MethodId} {args : Array Value} {below : List Frame} {meth : Method} {c : Code} {nL NF SF N0 S0 : Nat} {Q : State → Prop} {cc : ByteArray} {own : String} {ret : Option FieldType} {S : FS}
theorem fs_c0 {P : Nat × Nat × Instr → Prop} : ∀ q ∈ ([] : List (Nat × Nat × Instr)), P q := fun q h => by cases h
theorem fs_c1 {P : Nat × Nat × Instr → Prop} {a : Nat × Nat × Instr} {t : List (Nat × Nat × Instr)} (h : P a) (ht : ∀ q ∈ t, P q) : ∀ q ∈ a :: t, P q := List.forall_mem_cons.mpr ⟨h, ht⟩
theorem fs_newI {pc n : Nat} (C : fs_C E p R s m args meth c cc own nL ret NF SF N0 S0) (hd : decode cc pc = .ok (.newarray .int, 2)) (ha : (Cond.arrayClass .int).before args s = true) (hn : n % 1024 = 901) (hty : E.2.2.2.2.2.2.1 901 = .int) : fs_Snd S own cc ret nL E p l e R s m args below meth c NF SF N0 S0 Q pc (pc + 2) (.anewarray n) :=
  fs_newp (t := 901) (w := 4) C hd ha hn rfl (by decide) (by decide) hty (by decide) rfl (fun _ _ h => h)
theorem fs_newL {pc n : Nat} (C : fs_C E p R s m args meth c cc own nL ret NF SF N0 S0) (hd : decode cc pc = .ok (.newarray .long, 2)) (ha : (Cond.arrayClass .long).before args s = true) (hn : n % 1024 = 902) (hty : E.2.2.2.2.2.2.1 902 = .long) : fs_Snd S own cc ret nL E p l e R s m args below meth c NF SF N0 S0 Q pc (pc + 2) (.anewarray n) :=
  fs_newp (t := 902) (w := 8) C hd ha hn rfl (by decide) (by decide) hty (by decide) rfl (fun _ _ h => h)
theorem fs_newB {pc n : Nat} (C : fs_C E p R s m args meth c cc own nL ret NF SF N0 S0) (hd : decode cc pc = .ok (.newarray .byte, 2)) (ha : (Cond.arrayClass .byte).before args s = true) (hn : n % 1024 = 903) (hty : E.2.2.2.2.2.2.1 903 = .byte) : fs_Snd S own cc ret nL E p l e R s m args below meth c NF SF N0 S0 Q pc (pc + 2) (.anewarray n) :=
  fs_newp (t := 903) (w := 1) C hd ha hn rfl (by decide) (by decide) hty (by decide) rfl (fun _ _ h => h)
theorem fs_newZ {pc n : Nat} (C : fs_C E p R s m args meth c cc own nL ret NF SF N0 S0) (hd : decode cc pc = .ok (.newarray .boolean, 2)) (ha : (Cond.arrayClass .boolean).before args s = true) (hn : n % 1024 = 904) (hty : E.2.2.2.2.2.2.1 904 = .boolean) : fs_Snd S own cc ret nL E p l e R s m args below meth c NF SF N0 S0 Q pc (pc + 2) (.anewarray n) :=
  fs_newp (t := 904) (w := 1) C hd ha hn rfl (by decide) (by decide) hty (by decide) rfl (fun _ _ h => h)
end FsGn
def fs_cii (f : Int32 → Int32 → Int32) (As : List Value) (M : FM) (v : Option Value) (M' : FM) : Prop := ∃ x y, As = [.int x, .int y] ∧ v = some (.int (f x y)) ∧ M' = M
def fs_cll (f : Int64 → Int64 → Int64) (As : List Value) (M : FM) (v : Option Value) (M' : FM) : Prop := ∃ x y, As = [.long x, .long y] ∧ v = some (.long (f x y)) ∧ M' = M
theorem fs_cii_mono {f : Int32 → Int32 → Int32} : ∀ As M v M', fs_cii f As M v M' → fm_nx M ≤ fm_nx M' ∧ fm_ns M ≤ fm_ns M' := by
  intro As M v M' ⟨x, y, _, _, e⟩
  rw [e]
  exact ⟨Nat.le_refl _, Nat.le_refl _⟩
theorem fs_cll_mono {f : Int64 → Int64 → Int64} : ∀ As M v M', fs_cll f As M v M' → fm_nx M ≤ fm_nx M' ∧ fm_ns M ≤ fm_ns M' := by
  intro As M v M' ⟨x, y, _, _, e⟩
  rw [e]
  exact ⟨Nat.le_refl _, Nat.le_refl _⟩
theorem lg_cmp_pos (a b : Int64) : 0 < lg_cmp a b ↔ b < a := by
  unfold lg_cmp
  split
  · rename_i h; simp [h]
  · rename_i h
    split <;> simp_all
def fm_max (x y : Int32) : Int32 := if x < y then y else x
def fm_min (x y : Int32) : Int32 := if y < x then y else x
def fm_minl (x y : Int64) : Int64 := if y < x then y else x
section FsMa
variable {E : FE} {p : Program} {l : Launch} {e : Env} {R : Room} {s : State} {m : MethodId} {args : Array Value} {below : List Frame} {meth : Method} {c : Code} {nL NF SF N0 S0 : Nat} {Q : State → Prop} {cc : ByteArray} {own : String} {ret : Option FieldType} {pc idx : Nat}
theorem fs_lk_mmax (C : fs_C E p R s m args meth c cc own nL ret NF SF N0 S0) (hd : decode cc pc = .ok (.invokestatic idx, 3)) (hcode : (Cond.code Lib.Math.max.name Lib.Math.max.code 2 (some .int)).before args s = true) (hini : (Cond.initialized "java/lang/Math").before args s = true) (hst : (Cond.static Lib.Math.max.name).before args s = true) (hl : (Cond.methodLink own idx Lib.Math.max.name).before args s = true) (hf : 1 ≤ R.frames) (hlo : 64 ≤ R.locals) :
    fs_Lk E p l e R s m args below meth c nL Q pc (pc + 3) 2 0 0 (fs_cii fm_max) := by
  obtain ⟨hx, hb, hml, hown, hwm, hlk0, hr, hRR, hE⟩ := C
  intro As rest M M' v H ls locs cells slots hc hlen hR hls hcat hrecv hcells hslots kk
  obtain ⟨x, y, rfl, rfl, rfl⟩ := hc
  have k2 := kk H [] (fun q h => by cases h) hR
  rw [List.append_nil, Nat.sub_self, Nat.sub_self] at k2
  exact va_mmax (rest := rest.map (fs_tr E)) hx hb (hml.trans hls.symm) hown hl hst hini hcode hf (by rw [fs_cats]; omega) (by omega) (by omega) hd k2
theorem fs_lk_mmin (C : fs_C E p R s m args meth c cc own nL ret NF SF N0 S0) (hd : decode cc pc = .ok (.invokestatic idx, 3)) (hcode : (Cond.code Lib.Math.min.name Lib.Math.min.code 2 (some .int)).before args s = true) (hini : (Cond.initialized "java/lang/Math").before args s = true) (hst : (Cond.static Lib.Math.min.name).before args s = true) (hl : (Cond.methodLink own idx Lib.Math.min.name).before args s = true) (hf : 1 ≤ R.frames) (hlo : 64 ≤ R.locals) :
    fs_Lk E p l e R s m args below meth c nL Q pc (pc + 3) 2 0 0 (fs_cii fm_min) := by
  obtain ⟨hx, hb, hml, hown, hwm, hlk0, hr, hRR, hE⟩ := C
  intro As rest M M' v H ls locs cells slots hc hlen hR hls hcat hrecv hcells hslots kk
  obtain ⟨x, y, rfl, rfl, rfl⟩ := hc
  have k2 := kk H [] (fun q h => by cases h) hR
  rw [List.append_nil, Nat.sub_self, Nat.sub_self] at k2
  exact va_mmin (rest := rest.map (fs_tr E)) hx hb (hml.trans hls.symm) hown hl hst hini hcode hf (by rw [fs_cats]; omega) (by omega) (by omega) hd k2
theorem fs_lk_mminl (C : fs_C E p R s m args meth c cc own nL ret NF SF N0 S0) (hd : decode cc pc = .ok (.invokestatic idx, 3)) (hcode : (Cond.code Lib.MathLoose.min_long.x Lib.MathLoose.min_long.code 4 (some .long)).before args s = true) (hini : (Cond.initialized "java/lang/Math").before args s = true) (hst : (Cond.static Lib.MathLoose.min_long.x).before args s = true) (hl : (Cond.methodLink own idx Lib.MathLoose.min_long.x).before args s = true) (hf : 1 ≤ R.frames) (hlo : 64 ≤ R.locals) :
    fs_Lk E p l e R s m args below meth c nL Q pc (pc + 3) 2 0 0 (fs_cll fm_minl) := by
  obtain ⟨hx, hb, hml, hown, hwm, hlk0, hr, hRR, hE⟩ := C
  intro As rest M M' v H ls locs cells slots hc hlen hR hls hcat hrecv hcells hslots kk
  obtain ⟨x, y, rfl, rfl, rfl⟩ := hc
  have k2 := kk H [] (fun q h => by cases h) hR
  rw [List.append_nil, Nat.sub_self, Nat.sub_self] at k2
  exact va_mmin_long (rest := rest.map (fs_tr E)) hx hb (hml.trans hls.symm) hown hl hst hini hcode hf (by rw [fs_cats]; omega) (by omega) (by omega) hd k2
end FsMa
def fe_tab : Int → List Int → List (Int × Int)
  | _, [] => []
  | lo, o :: t => (lo, o) :: fe_tab (lo + 1) t
theorem fe_tab_e {R : Type} {go : Nat → fm_L → List Value → FM → Option R} {pc : Nat} {d : Int} {L : fm_L} {st : List Value} {M : FM} {x : Int32} : ∀ (offs : List Int) (lo : Int), fe_lsw go pc d (fe_tab lo offs) L st M x = fe_sw go pc d lo offs L st M x := by
  intro offs
  induction offs with
  | nil => intro lo; rfl
  | cons o t ih =>
    intro lo
    show fi _ _ (fe_lsw go pc d (fe_tab (lo + 1) t) L st M x) = fi _ _ (fe_sw go pc d (lo + 1) t L st M x)
    rw [ih]
section FsTs
variable {E : FE} {p : Program} {l : Launch} {e : Env} {R : Room} {s : State} {m : MethodId} {args : Array Value} {below : List Frame} {meth : Method} {c : Code} {nL NF SF N0 S0 : Nat} {Q : State → Prop} {cc : ByteArray} {own : String} {ret : Option FieldType} {S : FS}
theorem fs_tswl {pc nx : Nat} {d lo hi : Int} {offs : Array Int} {ps : Array (Int × Int)} (C : fs_C E p R s m args meth c cc own nL ret NF SF N0 S0) (hk : fs_tsok cc pc nx d lo hi offs = true) (he : ps.toList = fe_tab lo offs.toList) : fs_Snd S own cc ret nL E p l e R s m args below meth c NF SF N0 S0 Q pc nx (.lookupswitch d ps) := by
  intro Rt go kr r L st M h hgo hret
  refine fs_tsw (S := S) C hk Rt go kr r L st M ?_ hgo hret
  rw [← h]
  dsimp only [fx_step, fe_step]
  rw [he]
  split
  · exact (fe_tab_e _ _).symm
  · rfl
end FsTs
