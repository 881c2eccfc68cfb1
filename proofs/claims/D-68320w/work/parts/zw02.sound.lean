/-! SOUNDNESS of the friendly machine over the kit's W. -/
/-- the start's state, its heap, addresses of old things by their codes, places of classes, classes, fields' numbers and kinds, arrays' types, what may be written -/
abbrev FE : Type := State × Heap × (Nat → Nat) × va_G × List vw_C × (Nat → Nat → Nat × Nat) × (Nat → FieldType) × (Nat → Bool)
def fs_ra (E : FE) (c : Nat) : Nat := if c < 1000 then E.2.2.1 c else E.2.1.size + (c - 1000)
def fs_rv (E : FE) (c : Nat) : Value := if c = 0 then .null else .ref (fs_ra E c)
def fs_tr (E : FE) : Value → Value
  | .ref c => fs_rv E c
  | v => v
def fs_fv (E : FE) (M : FM) (a : Nat) (q : Nat × Nat) : Value := if q.2 = 1 then .long (M.2.1 q.1 a 0) else if q.2 = 2 then fs_rv E (M.2.2 q.1 a 0) else .int (M.1 q.1 a 0)
def fs_av (E : FE) (M : FM) (t a : Nat) : Nat → Value := fun j => if t = 902 then .long (M.2.1 3 a j) else if t < 910 then .int (M.1 3 a j) else fs_rv E (M.2.2 3 a j)
def fs_cell (E : FE) (M : FM) (H : Heap) (a t : Nat) : Prop :=
  if t < 900 then ∃ q : vw_C, E.2.2.2.2.1[t]? = some q ∧ t_OB (fs_ra E a) (E.2.2.2.1.1 t) q.2.2 (E.2.2.2.1.2 t) H (fun k => fs_fv E M a (E.2.2.2.2.2.1 t k)) ∧ (E.2.2.2.2.2.2.2 t = false → t = 7 → M.1 16 a 0 = 0)
  else ∃ cA : ClassId, ArrOfT E.1 cA (E.2.2.2.2.2.2.1 t) ∧ va_RA E.1 cA (E.2.2.2.2.2.2.1 t) ∧ H[fs_ra E a]? = some (arrV cA (M.2.2 1 a 0) (fs_av E M t a)) ∧ M.2.2 1 a 0 < 2 ^ 31 ∧ (t = 903 → ∀ j : Nat, fits .byte (fs_av E M t a j) = true)
def fs_Rel (E : FE) (M : FM) (H : Heap) : Prop :=
  (E.2.1.size ≤ H.size ∧ ∀ q : Nat, q < E.2.1.size → H[q]? = E.2.1[q]?) ∧ (1000 ≤ fm_nx M ∧ H.size + 1000 = E.2.1.size + fm_nx M) ∧
  (∀ a : Nat, M.2.2 0 a 0 ≠ 0 → a ≠ 0 ∧ a < fm_nx M ∧ fs_cell E M H a (M.2.2 0 a 0)) ∧ (∀ a : Nat, a < 1000 → E.2.2.2.2.2.2.2 (M.2.2 0 a 0) = false) ∧
  ∀ a : Nat, fm_nx M ≤ a → ∀ f i : Nat, M.1 f a i = 0 ∧ M.2.1 f a i = 0 ∧ M.2.2 f a i = 0
def fs_lt (E : FE) (L : fm_L) : List (Nat × Value) := L.map fun q => (q.1, fs_tr E q.2)
/-- a type's kind: a long 1, a reference 2, a boolean 3, else 0 -/
def fs_kd : FieldType → Nat
  | .long => 1
  | .object _ => 2
  | .array _ => 2
  | .boolean => 3
  | .int => 0
  | .byte => 0
  | _ => 4
/-- a class of the tables: known at the start, its words hold, its fields' types and names -/
def fs_gc (E : FE) (t : Nat) (q : vw_C) : Prop := u_Kn E.1 q.1 q.2.1 q.2.2 (E.2.2.2.1.1 t) (E.2.2.2.1.2 t) ∧ (E.2.2.2.2.2.2.2 t = true → ∀ w ∈ u_ws q.1 q.2.1 q.2.2, w.before #[] E.1 = true) ∧
  (∃ ty : Nat → FieldType, ∀ k, k < q.2.2 → parseFieldDescriptor (q.2.1 k).2.2.1 = some (ty k) ∧ (E.2.2.2.2.2.1 t k).2 = fs_kd (ty k) ∧ fs_kd (ty k) ≠ 4 ∧ 10 ≤ (E.2.2.2.2.2.1 t k).1) ∧ (∀ k, k < q.2.2 → ∀ x, E.1.fieldFound? (q.2.1 k).1 (q.2.1 k).2.1 (q.2.1 k).2.2.1 = some x → x.2.2.2.isStatic = false) ∧ ∀ a, a < q.2.2 → ∀ b, b < q.2.2 → a ≠ b → (q.2.1 a).2.1 ≠ (q.2.1 b).2.1
/-- codes of old things are apart from new ones, those of enums from one another; arrays' types -/
def fs_good (E : FE) : Prop := (∀ c : Nat, c < 1000 → E.2.2.1 c < E.2.1.size) ∧ (∀ x y : Nat, 0 < x → x < 42 → 0 < y → y < 42 → E.2.2.1 x = E.2.2.1 y → x = y) ∧
  (E.2.2.2.2.2.2.1 901 = .int ∧ E.2.2.2.2.2.2.1 902 = .long ∧ E.2.2.2.2.2.2.1 903 = .byte ∧ E.2.2.2.2.2.2.1 904 = .boolean ∧ E.2.2.2.2.2.2.1 905 = .byte ∧ E.2.2.2.2.2.2.1 906 = .int) ∧ (∀ t, 910 ≤ t → (E.2.2.2.2.2.2.1 t).isReference = true) ∧ ∀ (t : Nat) (q : vw_C), E.2.2.2.2.1[t]? = some q → fs_gc E t q
def fs_C (E : FE) (p : Program) (R : Room) (s : State) (m : MethodId) (args : Array Value) (meth : Method) (c : Code) (cc : ByteArray) (own : String) (nL : Nat) (ret : Option FieldType) (NF SF N0 S0 : Nat) : Prop :=
  p.tables.exec = Jvm.exec ∧ c.code = cc ∧ c.maxLocals = nL ∧ s.vm.findClass own = some m.cls ∧ E.1.WarmedH s.vm ∧ meth.locks = false ∧ meth.sig.returnType = ret ∧ (R.cells + N0 = NF ∧ R.slots + S0 = SF) ∧ fs_good E
/-- the machine at an instruction: whatever heap holds the memory, it comes to the end -/
def fs_G (E : FE) (p : Program) (l : Launch) (e : Env) (R : Room) (s : State) (m : MethodId) (args : Array Value) (below : List Frame) (meth : Method) (c : Code) (nL NF SF N0 S0 : Nat) (Q : State → Prop) (pc : Nat) (L : fm_L) (st : List Value) (M : FM) : Prop :=
  (fm_nx M ≤ NF ∧ fm_ns M ≤ SF) ∧ ∀ (H : Heap) (ls : Array Slot) (locs : List Loc) (cells slots : Nat), fs_Rel E M H → lv_has ls nL (fs_lt E L) → (∀ q ∈ locs, E.2.1.size ≤ q.base) → cells + N0 = fm_nx M → slots + S0 = fm_ns M →
    W p l e R s m args below meth c H locs cells slots Q (F0 m pc ls (st.map (fs_tr E)))
theorem fs_tr_cat (E : FE) (v : Value) : (fs_tr E v).category = v.category := by
  cases v <;> try rfl
  rename_i a
  show (fs_rv E a).category = 1
  unfold fs_rv
  split <;> rfl
theorem fe_lk_mem {L : fm_L} {i : Nat} {v : Value} (h : fe_lk L i = some v) : (i, v) ∈ L := by
  induction L with
  | nil => cases h
  | cons q t ih =>
    obtain ⟨j, w⟩ := q
    unfold fe_lk at h
    rw [fe_bif] at h
    split at h
    · rename_i hj
      subst hj
      cases h
      exact List.mem_cons_self
    · exact List.mem_cons_of_mem _ (ih h)
theorem fs_lk {E : FE} {L : fm_L} {ls : Array Slot} {nL i : Nat} {v : Value} (hl : lv_has ls nL (fs_lt E L)) (h : fe_lk L i = some v) : ls[i]? = some (.val (fs_tr E v)) :=
  hl.2.2 (i, fs_tr E v) (List.mem_map.mpr ⟨(i, v), fe_lk_mem h, rfl⟩)
theorem fe_f1_eq (E : FE) (i : Nat) (L : fm_L) : (fs_lt E L).filter (fun q => !(q.1 == i) && !(q.1 + 1 == i && q.2.category == 2)) = fs_lt E (fe_f1 i L) := by
  induction L with
  | nil => rfl
  | cons q t ih =>
    obtain ⟨j, v⟩ := q
    unfold fe_f1
    have e : (bif Nat.beq j i || (Nat.beq (j + 1) i && Nat.beq v.category 2) then fe_f1 i t else (j, v) :: fe_f1 i t) = if j = i ∨ (j + 1 = i ∧ v.category = 2) then fe_f1 i t else (j, v) :: fe_f1 i t := by
      by_cases h1 : j = i <;> by_cases h2 : j + 1 = i <;> by_cases h3 : v.category = 2 <;> simp_all [fe_bq]
    rw [e]
    show List.filter _ ((j, fs_tr E v) :: fs_lt E t) = _
    rw [List.filter_cons, ih]
    by_cases h1 : j = i <;> by_cases h2 : j + 1 = i <;> by_cases h3 : v.category = 2 <;> simp_all [fs_tr_cat, fs_lt]
theorem fe_f2_eq (E : FE) (i : Nat) (L : fm_L) : (fs_lt E L).filter (fun q => !(q.1 == i) && (!(q.1 == i + 1) && !(q.1 + 1 == i && q.2.category == 2))) = fs_lt E (fe_f2 i L) := by
  induction L with
  | nil => rfl
  | cons q t ih =>
    obtain ⟨j, v⟩ := q
    unfold fe_f2
    have e : (bif Nat.beq j i || (Nat.beq j (i + 1) || (Nat.beq (j + 1) i && Nat.beq v.category 2)) then fe_f2 i t else (j, v) :: fe_f2 i t) = if j = i ∨ j = i + 1 ∨ (j + 1 = i ∧ v.category = 2) then fe_f2 i t else (j, v) :: fe_f2 i t := by
      by_cases h1 : j = i <;> by_cases h4 : j = i + 1 <;> by_cases h2 : j + 1 = i <;> by_cases h3 : v.category = 2 <;> simp_all [fe_bq]
    rw [e]
    show List.filter _ ((j, fs_tr E v) :: fs_lt E t) = _
    rw [List.filter_cons, ih]
    by_cases h1 : j = i <;> by_cases h4 : j = i + 1 <;> by_cases h2 : j + 1 = i <;> by_cases h3 : v.category = 2 <;> simp_all [fs_tr_cat, fs_lt]
theorem fs_lt_s1 (E : FE) (L : fm_L) (i : Nat) (v : Value) : (i, fs_tr E v) :: (fs_lt E L).filter (fun q => !(q.1 == i) && !(q.1 + 1 == i && q.2.category == 2)) = fs_lt E (fe_s1 L i v) := by
  rw [fe_f1_eq]
  rfl
theorem fs_lt_s2 (E : FE) (L : fm_L) (i : Nat) (v : Value) : (i, fs_tr E v) :: (fs_lt E L).filter (fun q => !(q.1 == i) && (!(q.1 == i + 1) && !(q.1 + 1 == i && q.2.category == 2))) = fs_lt E (fe_s2 L i v) := by
  rw [fe_f2_eq]
  rfl
section FsA
variable {E : FE} {p : Program} {l : Launch} {e : Env} {R : Room} {s : State} {m : MethodId} {args : Array Value} {below : List Frame} {meth : Method} {c : Code} {nL NF SF N0 S0 : Nat} {Q : State → Prop} {cc : ByteArray} {own : String} {ret : Option FieldType}
/-- an instruction that leaves memory and locals -/
theorem fs_pure {pc pc' : Nat} {L : fm_L} {st st' : List Value} {M : FM} (k : fs_G E p l e R s m args below meth c nL NF SF N0 S0 Q pc' L st' M)
    (h : ∀ (H : Heap) (ls : Array Slot) (locs : List Loc) (cells slots : Nat), W p l e R s m args below meth c H locs cells slots Q (F0 m pc' ls (st'.map (fs_tr E))) → W p l e R s m args below meth c H locs cells slots Q (F0 m pc ls (st.map (fs_tr E)))) : fs_G E p l e R s m args below meth c nL NF SF N0 S0 Q pc L st M :=
  ⟨k.1, fun H ls locs cells slots h1 h2 h3 h4 h5 => h _ _ _ _ _ (k.2 H ls locs cells slots h1 h2 h3 h4 h5)⟩
theorem fs_pureL {pc pc' : Nat} {L : fm_L} {st st' : List Value} {M : FM} (k : fs_G E p l e R s m args below meth c nL NF SF N0 S0 Q pc' L st' M)
    (h : ∀ (H : Heap) (ls : Array Slot) (locs : List Loc) (cells slots : Nat), lv_has ls nL (fs_lt E L) → W p l e R s m args below meth c H locs cells slots Q (F0 m pc' ls (st'.map (fs_tr E))) → W p l e R s m args below meth c H locs cells slots Q (F0 m pc ls (st.map (fs_tr E)))) : fs_G E p l e R s m args below meth c nL NF SF N0 S0 Q pc L st M :=
  ⟨k.1, fun H ls locs cells slots h1 h2 h3 h4 h5 => h _ _ _ _ _ h2 (k.2 H ls locs cells slots h1 h2 h3 h4 h5)⟩
theorem fs_store {pc pc' : Nat} {L L' : fm_L} {st st' : List Value} {M : FM} (k : fs_G E p l e R s m args below meth c nL NF SF N0 S0 Q pc' L' st' M)
    (h : ∀ (H : Heap) (ls : Array Slot) (locs : List Loc) (cells slots : Nat), lv_has ls nL (fs_lt E L) → (∀ ls' : Array Slot, lv_has ls' nL (fs_lt E L') → W p l e R s m args below meth c H locs cells slots Q (F0 m pc' ls' (st'.map (fs_tr E)))) → W p l e R s m args below meth c H locs cells slots Q (F0 m pc ls (st.map (fs_tr E)))) : fs_G E p l e R s m args below meth c nL NF SF N0 S0 Q pc L st M :=
  ⟨k.1, fun H ls locs cells slots h1 h2 h3 h4 h5 => h _ _ _ _ _ h2 (fun ls' hl' => k.2 H ls' locs cells slots h1 hl' h3 h4 h5)⟩
theorem fs_two {P : Prop} {pc pc1 pc2 : Nat} {L : fm_L} {st st' : List Value} {M : FM} (hd : P ∨ ¬ P) (k1 : P → fs_G E p l e R s m args below meth c nL NF SF N0 S0 Q pc1 L st' M) (k2 : ¬ P → fs_G E p l e R s m args below meth c nL NF SF N0 S0 Q pc2 L st' M)
    (h : ∀ (H : Heap) (ls : Array Slot) (locs : List Loc) (cells slots : Nat), (P → W p l e R s m args below meth c H locs cells slots Q (F0 m pc1 ls (st'.map (fs_tr E)))) → (¬ P → W p l e R s m args below meth c H locs cells slots Q (F0 m pc2 ls (st'.map (fs_tr E)))) → W p l e R s m args below meth c H locs cells slots Q (F0 m pc ls (st.map (fs_tr E)))) : fs_G E p l e R s m args below meth c nL NF SF N0 S0 Q pc L st M :=
  ⟨hd.elim (fun q => (k1 q).1) (fun q => (k2 q).1), fun H ls locs cells slots h1 h2 h3 h4 h5 => h _ _ _ _ _ (fun q => (k1 q).2 H ls locs cells slots h1 h2 h3 h4 h5) (fun q => (k2 q).2 H ls locs cells slots h1 h2 h3 h4 h5)⟩
end FsA
def fs_ti (cc : ByteArray) (pc nx : Nat) (i : Instr) (n : Nat) : Bool := nx == pc + n && decide (decode cc pc = .ok (i, n))
def fs_tg (pc : Nat) (off : Int) : Bool := decide (0 ≤ (pc : Int) + off)
/-- instructions that need nothing of the tables -/
def fs_ok (cc : ByteArray) (ret : Option FieldType) (nL pc nx : Nat) : Instr → Bool
  | .aconst_null => fs_ti cc pc nx .aconst_null 1
  | .iconst v => fs_ti cc pc nx (.iconst v) 1 || (fs_ti cc pc nx (.bipush v) 2 && decide ((Int8.ofInt v).toInt32 = Int32.ofInt v)) || (fs_ti cc pc nx (.sipush v) 3 && decide ((Int16.ofInt v).toInt32 = Int32.ofInt v))
  | .jsr_w v => (fs_ti cc pc nx (.lconst 0) 1 && decide (v = 0)) || (fs_ti cc pc nx (.lconst 1) 1 && decide (v = 1))
  | .iload i => fs_ti cc pc nx (.iload i) 2 || (if h : i < 4 then fs_ti cc pc nx (.iload_n ⟨i, h⟩) 1 else false)
  | .lload i => fs_ti cc pc nx (.lload i) 2 || (if h : i < 4 then fs_ti cc pc nx (.lload_n ⟨i, h⟩) 1 else false)
  | .aload i => fs_ti cc pc nx (.aload i) 2 || (if h : i < 4 then fs_ti cc pc nx (.aload_n ⟨i, h⟩) 1 else false)
  | .istore i => decide (i < nL) && (fs_ti cc pc nx (.istore i) 2 || (if h : i < 4 then fs_ti cc pc nx (.istore_n ⟨i, h⟩) 1 else false))
  | .lstore i => decide (i + 1 < nL) && (fs_ti cc pc nx (.lstore i) 2 || (if h : i < 4 then fs_ti cc pc nx (.lstore_n ⟨i, h⟩) 1 else false))
  | .astore i => decide (i < nL) && (fs_ti cc pc nx (.astore i) 2 || (if h : i < 4 then fs_ti cc pc nx (.astore_n ⟨i, h⟩) 1 else false))
  | .iinc i v => decide (i < nL) && fs_ti cc pc nx (.iinc i v) 3
  | .iadd => fs_ti cc pc nx .iadd 1
  | .isub => fs_ti cc pc nx .isub 1
  | .imul => fs_ti cc pc nx .imul 1
  | .iand => fs_ti cc pc nx .iand 1
  | .ior => fs_ti cc pc nx .ior 1
  | .ixor => fs_ti cc pc nx .ixor 1
  | .ishl => fs_ti cc pc nx .ishl 1
  | .ishr => fs_ti cc pc nx .ishr 1
  | .iushr => fs_ti cc pc nx .iushr 1
  | .idiv => fs_ti cc pc nx .idiv 1
  | .irem => fs_ti cc pc nx .irem 1
  | .ineg => fs_ti cc pc nx .ineg 1
  | .i2b => fs_ti cc pc nx .i2b 1
  | .i2c => fs_ti cc pc nx .i2c 1
  | .i2l => fs_ti cc pc nx .i2l 1
  | .l2i => fs_ti cc pc nx .l2i 1
  | .ladd => fs_ti cc pc nx .ladd 1
  | .lsub => fs_ti cc pc nx .lsub 1
  | .lmul => fs_ti cc pc nx .lmul 1
  | .land => fs_ti cc pc nx .land 1
  | .lor => fs_ti cc pc nx .lor 1
  | .lxor => fs_ti cc pc nx .lxor 1
  | .ldiv => fs_ti cc pc nx .ldiv 1
  | .lrem => fs_ti cc pc nx .lrem 1
  | .lneg => fs_ti cc pc nx .lneg 1
  | .lshl => fs_ti cc pc nx .lshl 1
  | .lshr => fs_ti cc pc nx .lshr 1
  | .lushr => fs_ti cc pc nx .lushr 1
  | .lcmp => fs_ti cc pc nx .lcmp 1
  | .dup => fs_ti cc pc nx .dup 1
  | .dup_x1 => fs_ti cc pc nx .dup_x1 1
  | .dup2 => fs_ti cc pc nx .dup2 1
  | .dup2_x1 => fs_ti cc pc nx .dup2_x1 1
  | .pop => fs_ti cc pc nx .pop 1
  | .ifCond c off => fs_tg pc off && fs_ti cc pc nx (.ifCond c off) 3
  | .if_icmp c off => fs_tg pc off && fs_ti cc pc nx (.if_icmp c off) 3
  | .if_acmp c off => fs_tg pc off && fs_ti cc pc nx (.if_acmp c off) 3
  | .ifnull off => fs_tg pc off && fs_ti cc pc nx (.ifnull off) 3
  | .ifnonnull off => fs_tg pc off && fs_ti cc pc nx (.ifnonnull off) 3
  | .goto off => fs_tg pc off && fs_ti cc pc nx (.goto off) 3
  | .arraylength => fs_ti cc pc nx .arraylength 1
  | .iaload => fs_ti cc pc nx .iaload 1
  | .laload => fs_ti cc pc nx .laload 1
  | .baload => fs_ti cc pc nx .baload 1
  | .saload => fs_ti cc pc nx .baload 1
  | .caload => fs_ti cc pc nx .baload 1
  | .faload => fs_ti cc pc nx .iaload 1
  | .aaload => fs_ti cc pc nx .aaload 1
  | .iastore => fs_ti cc pc nx .iastore 1
  | .lastore => fs_ti cc pc nx .lastore 1
  | .bastore => fs_ti cc pc nx .bastore 1
  | .sastore => fs_ti cc pc nx .bastore 1
  | .ireturn => fs_ti cc pc nx .ireturn 1 && decide (ret = some .int ∨ ret = some .byte ∨ ret = some .char)
  | .freturn => fs_ti cc pc nx .ireturn 1 && decide (ret = some .boolean)
  | .lreturn => fs_ti cc pc nx .lreturn 1 && decide (ret = some .long)
  | .return_ => fs_ti cc pc nx .return_ 1 && decide (ret = none)
  | .areturn => fs_ti cc pc nx .areturn 1 && (match ret with | some (.object _) => true | some (.array _) => true | _ => false)
  | _ => false
/-- a return's word: the instruction, and the type -/
def fs_rt (cc : ByteArray) (ret : Option FieldType) (pc : Nat) : Option Value → Prop
  | none => decode cc pc = .ok (.return_, 1) ∧ ret = none
  | some (.int x) => decode cc pc = .ok (.ireturn, 1) ∧ (ret = some .int ∨ (ret = some .boolean ∧ (x = 0 ∨ x = 1)) ∨ ret = some .byte ∨ ret = some .char)
  | some (.long _) => decode cc pc = .ok (.lreturn, 1) ∧ ret = some .long
  | some (.ref _) => decode cc pc = .ok (.areturn, 1) ∧ ((∃ n, ret = some (.object n)) ∨ ∃ t, ret = some (.array t))
  | _ => False
def fs_R (E : FE) (p : Program) (l : Launch) (e : Env) (R : Room) (s : State) (m : MethodId) (args : Array Value) (below : List Frame) (meth : Method) (c : Code) (cc : ByteArray) (ret : Option FieldType) (NF SF N0 S0 : Nat) (Q : State → Prop) (v : Option Value) (M : FM) : Prop :=
  (fm_nx M ≤ NF ∧ fm_ns M ≤ SF) ∧ ∀ (H : Heap) (ls : Array Slot) (locs : List Loc) (cells slots pc : Nat), fs_Rel E M H → (∀ q ∈ locs, E.2.1.size ≤ q.base) → cells + N0 = fm_nx M → slots + S0 = fm_ns M → fs_rt cc ret pc v →
    W p l e R s m args below meth c H locs cells slots Q (F0 m pc ls (v.map (fs_tr E)).toList)
/-- an instruction of a method's code is sound -/
def fs_Snd (S : FS) (own : String) (cc : ByteArray) (ret : Option FieldType) (nL : Nat) (E : FE) (p : Program) (l : Launch) (e : Env) (R : Room) (s : State) (m : MethodId) (args : Array Value) (below : List Frame) (meth : Method) (c : Code) (NF SF N0 S0 : Nat) (Q : State → Prop) (pc nx : Nat) (ins : Instr) : Prop :=
  ∀ (Rt : Type) (go : Nat → fm_L → List Value → FM → Option Rt) (kr : Option Value → FM → Option Rt) (r : Rt) (L : fm_L) (st : List Value) (M : FM), fx_step S go kr ins pc nx L st M = some r →
    (∀ pc' L' st' M', go pc' L' st' M' = some r → fs_G E p l e R s m args below meth c nL NF SF N0 S0 Q pc' L' st' M') → (∀ v M', kr v M' = some r → fs_R E p l e R s m args below meth c cc ret NF SF N0 S0 Q v M') → fs_G E p l e R s m args below meth c nL NF SF N0 S0 Q pc L st M
theorem fs_ti_d {cc : ByteArray} {pc nx : Nat} {i : Instr} {n : Nat} (h : fs_ti cc pc nx i n = true) : nx = pc + n ∧ decode cc pc = .ok (i, n) := by
  unfold fs_ti at h
  simp only [Bool.and_eq_true, beq_iff_eq, decide_eq_true_eq] at h
  exact h
theorem fs_tg_d {pc : Nat} {off : Int} (h : fs_tg pc off = true) : (pc : Int) + off = (fe_tgt pc off : Int) := by
  unfold fs_tg at h
  simp only [decide_eq_true_eq] at h
  unfold fe_tgt
  omega
theorem fe_tgt0 (n : Nat) : fe_tgt n 0 = n := by
  unfold fe_tgt
  omega
section FsB
variable {E : FE} {p : Program} {l : Launch} {e : Env} {R : Room} {s : State} {m : MethodId} {args : Array Value} {below : List Frame} {meth : Method} {c : Code} {nL NF SF N0 S0 : Nat} {Q : State → Prop} {cc : ByteArray} {own : String} {ret : Option FieldType} {S : FS}
theorem fs_bin {op : Int32 → Int32 → Int32} {ins : Instr} {pc nx : Nat} (hs : ∀ (Rt : Type) (go : Nat → fm_L → List Value → FM → Option Rt) (kr : Option Value → FM → Option Rt) (L : fm_L) (st : List Value) (M : FM), fx_step S go kr ins pc nx L st M = fe_bin go op nx L st M)
    (hw : ∀ (H : Heap) (ls : Array Slot) (locs : List Loc) (cells slots : Nat) (x y : Int32) (rest : List Value), W p l e R s m args below meth c H locs cells slots Q (F0 m nx ls (.int (op x y) :: rest)) → W p l e R s m args below meth c H locs cells slots Q (F0 m pc ls (.int y :: .int x :: rest))) :
    fs_Snd S own cc ret nL E p l e R s m args below meth c NF SF N0 S0 Q pc nx ins := by
  intro Rt go kr r L st M h hgo hret
  rw [hs] at h
  unfold fe_bin at h
  split at h
  · exact fs_pure (hgo _ _ _ _ h) (fun H ls locs cells slots k => hw _ _ _ _ _ _ _ _ k)
  · cases h
theorem fs_lbin {op : Int64 → Int64 → Int64} {ins : Instr} {pc nx : Nat} (hs : ∀ (Rt : Type) (go : Nat → fm_L → List Value → FM → Option Rt) (kr : Option Value → FM → Option Rt) (L : fm_L) (st : List Value) (M : FM), fx_step S go kr ins pc nx L st M = fe_lbin go op nx L st M)
    (hw : ∀ (H : Heap) (ls : Array Slot) (locs : List Loc) (cells slots : Nat) (x y : Int64) (rest : List Value), W p l e R s m args below meth c H locs cells slots Q (F0 m nx ls (.long (op x y) :: rest)) → W p l e R s m args below meth c H locs cells slots Q (F0 m pc ls (.long y :: .long x :: rest))) :
    fs_Snd S own cc ret nL E p l e R s m args below meth c NF SF N0 S0 Q pc nx ins := by
  intro Rt go kr r L st M h hgo hret
  rw [hs] at h
  unfold fe_lbin at h
  split at h
  · exact fs_pure (hgo _ _ _ _ h) (fun H ls locs cells slots k => hw _ _ _ _ _ _ _ _ k)
  · cases h
theorem fs_lsh {op : Int64 → Int32 → Int64} {ins : Instr} {pc nx : Nat} (hs : ∀ (Rt : Type) (go : Nat → fm_L → List Value → FM → Option Rt) (kr : Option Value → FM → Option Rt) (L : fm_L) (st : List Value) (M : FM), fx_step S go kr ins pc nx L st M = fe_lsh go op nx L st M)
    (hw : ∀ (H : Heap) (ls : Array Slot) (locs : List Loc) (cells slots : Nat) (x : Int64) (y : Int32) (rest : List Value), W p l e R s m args below meth c H locs cells slots Q (F0 m nx ls (.long (op x y) :: rest)) → W p l e R s m args below meth c H locs cells slots Q (F0 m pc ls (.int y :: .long x :: rest))) :
    fs_Snd S own cc ret nL E p l e R s m args below meth c NF SF N0 S0 Q pc nx ins := by
  intro Rt go kr r L st M h hgo hret
  rw [hs] at h
  unfold fe_lsh at h
  split at h
  · exact fs_pure (hgo _ _ _ _ h) (fun H ls locs cells slots k => hw _ _ _ _ _ _ _ _ k)
  · cases h
theorem fs_div {op : Int32 → Int32 → Int32} {ins : Instr} {pc nx : Nat} (hs : ∀ (Rt : Type) (go : Nat → fm_L → List Value → FM → Option Rt) (kr : Option Value → FM → Option Rt) (L : fm_L) (st : List Value) (M : FM), fx_step S go kr ins pc nx L st M = fe_div go op nx L st M)
    (hw : ∀ (H : Heap) (ls : Array Slot) (locs : List Loc) (cells slots : Nat) (x y : Int32) (rest : List Value), ¬ y = 0 → W p l e R s m args below meth c H locs cells slots Q (F0 m nx ls (.int (op x y) :: rest)) → W p l e R s m args below meth c H locs cells slots Q (F0 m pc ls (.int y :: .int x :: rest))) :
    fs_Snd S own cc ret nL E p l e R s m args below meth c NF SF N0 S0 Q pc nx ins := by
  intro Rt go kr r L st M h hgo hret
  rw [hs] at h
  unfold fe_div at h
  simp only [fi_if] at h
  split at h
  · split at h
    · cases h
    · rename_i hne
      exact fs_pure (hgo _ _ _ _ h) (fun H ls locs cells slots k => hw _ _ _ _ _ _ _ _ hne k)
  · cases h
theorem fs_ldiv {op : Int64 → Int64 → Int64} {ins : Instr} {pc nx : Nat} (hs : ∀ (Rt : Type) (go : Nat → fm_L → List Value → FM → Option Rt) (kr : Option Value → FM → Option Rt) (L : fm_L) (st : List Value) (M : FM), fx_step S go kr ins pc nx L st M = fe_ldiv go op nx L st M)
    (hw : ∀ (H : Heap) (ls : Array Slot) (locs : List Loc) (cells slots : Nat) (x y : Int64) (rest : List Value), ¬ y = 0 → W p l e R s m args below meth c H locs cells slots Q (F0 m nx ls (.long (op x y) :: rest)) → W p l e R s m args below meth c H locs cells slots Q (F0 m pc ls (.long y :: .long x :: rest))) :
    fs_Snd S own cc ret nL E p l e R s m args below meth c NF SF N0 S0 Q pc nx ins := by
  intro Rt go kr r L st M h hgo hret
  rw [hs] at h
  unfold fe_ldiv at h
  simp only [fi_if] at h
  split at h
  · split at h
    · cases h
    · rename_i hne
      exact fs_pure (hgo _ _ _ _ h) (fun H ls locs cells slots k => hw _ _ _ _ _ _ _ _ hne k)
  · cases h
theorem fs_un {op : Int32 → Int32} {ins : Instr} {pc nx : Nat} (hs : ∀ (Rt : Type) (go : Nat → fm_L → List Value → FM → Option Rt) (kr : Option Value → FM → Option Rt) (L : fm_L) (st : List Value) (M : FM), fx_step S go kr ins pc nx L st M = fe_un go op nx L st M)
    (hw : ∀ (H : Heap) (ls : Array Slot) (locs : List Loc) (cells slots : Nat) (x : Int32) (rest : List Value), W p l e R s m args below meth c H locs cells slots Q (F0 m nx ls (.int (op x) :: rest)) → W p l e R s m args below meth c H locs cells slots Q (F0 m pc ls (.int x :: rest))) :
    fs_Snd S own cc ret nL E p l e R s m args below meth c NF SF N0 S0 Q pc nx ins := by
  intro Rt go kr r L st M h hgo hret
  rw [hs] at h
  unfold fe_un at h
  split at h
  · exact fs_pure (hgo _ _ _ _ h) (fun H ls locs cells slots k => hw _ _ _ _ _ _ _ k)
  · cases h
theorem fs_br {P : Prop} {Rt : Type} {go : Nat → fm_L → List Value → FM → Option Rt} {r : Rt} {pc pc1 nx : Nat} {off : Int} {L : fm_L} {st st' : List Value} {M : FM} (h : fe_br go P pc1 off nx L st' M = some r)
    (hgo : ∀ pc' L' st' M', go pc' L' st' M' = some r → fs_G E p l e R s m args below meth c nL NF SF N0 S0 Q pc' L' st' M')
    (hw : ∀ (H : Heap) (ls : Array Slot) (locs : List Loc) (cells slots : Nat), (P → W p l e R s m args below meth c H locs cells slots Q (F0 m (fe_tgt pc1 off) ls (st'.map (fs_tr E)))) → (¬ P → W p l e R s m args below meth c H locs cells slots Q (F0 m nx ls (st'.map (fs_tr E)))) → W p l e R s m args below meth c H locs cells slots Q (F0 m pc ls (st.map (fs_tr E)))) : fs_G E p l e R s m args below meth c nL NF SF N0 S0 Q pc L st M := by
  unfold fe_br at h
  by_cases hP : P
  · rw [fi_pos hP] at h
    exact fs_pure (hgo _ _ _ _ h) (fun H ls locs cells slots k => hw _ _ _ _ _ (fun _ => k) (fun n => absurd hP n))
  · rw [fi_neg hP] at h
    exact fs_pure (hgo _ _ _ _ h) (fun H ls locs cells slots k => hw _ _ _ _ _ (fun n => absurd n hP) (fun _ => k))
end FsB
