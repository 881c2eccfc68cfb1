/-! THE FRIENDLY MACHINE: typed memory (ints, longs, references as codes: 0 is null), and an interpreter in continuation style over decoded code. -/
abbrev fm_L : Type := List (Nat × Value)
abbrev FM : Type := (Nat → Nat → Nat → Int32) × (Nat → Nat → Nat → Int64) × (Nat → Nat → Nat → Nat)
def fm_sI (M : FM) (f a i : Nat) (v : Int32) : FM := (fun f' a' i' => if f' = f ∧ a' = a ∧ i' = i then v else M.1 f' a' i', M.2.1, M.2.2)
def fm_sL (M : FM) (f a i : Nat) (v : Int64) : FM := (M.1, fun f' a' i' => if f' = f ∧ a' = a ∧ i' = i then v else M.2.1 f' a' i', M.2.2)
def fm_sR (M : FM) (f a i : Nat) (v : Nat) : FM := (M.1, M.2.1, fun f' a' i' => if f' = f ∧ a' = a ∧ i' = i then v else M.2.2 f' a' i')
/-- the class of what a code stands for lies between two -/
def fm_is (M : FM) (lo hi a : Nat) : Bool := Nat.ble lo (M.2.2 0 a 0) && Nat.ble (M.2.2 0 a 0) hi
def fm_in (M : FM) (a : Nat) (i : Int32) : Bool := !(decide (i < 0)) && decide (i.toNatClampNeg < M.2.2 1 a 0)
def fm_nx (M : FM) : Nat := M.2.2 2 0 0
def fm_ns (M : FM) : Nat := M.2.2 2 0 1
def fm_new (M : FM) (t n : Nat) : FM := fm_sR (fm_sR (fm_sR M 0 (fm_nx M) 0 t) 2 0 1 (fm_ns M + n)) 2 0 0 (fm_nx M + 1)
/-- an array: its class, what it is for (a number that nothing in the program sees), its length -/
def fm_newa (M : FM) (t s n : Nat) : FM := fm_sR (fm_sR (fm_sR (fm_sR (fm_sR M 0 (fm_nx M) 1 s) 1 (fm_nx M) 0 n) 0 (fm_nx M) 0 t) 2 0 1 (fm_ns M + n)) 2 0 0 (fm_nx M + 1)
def fm_wd (t : Nat) : Nat := bif Nat.beq t 902 then 8 else bif Nat.beq t 903 || Nat.beq t 904 then 1 else 4
def fe_lk : fm_L → Nat → Option Value
  | [], _ => none
  | (j, v) :: t, i => bif Nat.beq j i then some v else fe_lk t i
def fe_f1 (i : Nat) : fm_L → fm_L
  | [] => []
  | (j, v) :: t => bif Nat.beq j i || (Nat.beq (j + 1) i && Nat.beq v.category 2) then fe_f1 i t else (j, v) :: fe_f1 i t
def fe_f2 (i : Nat) : fm_L → fm_L
  | [] => []
  | (j, v) :: t => bif Nat.beq j i || (Nat.beq j (i + 1) || (Nat.beq (j + 1) i && Nat.beq v.category 2)) then fe_f2 i t else (j, v) :: fe_f2 i t
def fe_s1 (L : fm_L) (i : Nat) (v : Value) : fm_L := (i, v) :: fe_f1 i L
def fe_s2 (L : fm_L) (i : Nat) (v : Value) : fm_L := (i, v) :: fe_f2 i L
theorem fe_bq (a b : Nat) : Nat.beq a b = decide (a = b) := by
  by_cases h : a = b
  · subst h
    simp
  · rw [decide_eq_false h]
    cases e : Nat.beq a b with
    | true => exact absurd (Nat.eq_of_beq_eq_true e) h
    | false => rfl
theorem fe_bif {α : Type _} {a b : Nat} {x y : α} : (bif Nat.beq a b then x else y) = if a = b then x else y := by
  by_cases h : a = b
  · subst h
    simp
  · rw [if_neg h]
    cases e : Nat.beq a b with
    | true => exact absurd (Nat.eq_of_beq_eq_true e) h
    | false => rfl
theorem fe_bif2 {α : Type _} {a b c d : Nat} {x y : α} : (bif Nat.ble a b && Nat.ble c d then x else y) = if a ≤ b ∧ c ≤ d then x else y := by
  by_cases h : a ≤ b ∧ c ≤ d
  · rw [if_pos h]
    simp [Nat.ble_eq.mpr h.1, Nat.ble_eq.mpr h.2]
  · rw [if_neg h]
    cases e : Nat.ble a b with
    | false => rfl
    | true =>
      cases e2 : Nat.ble c d with
      | false => rfl
      | true => exact absurd ⟨Nat.ble_eq.mp e, Nat.ble_eq.mp e2⟩ h
/-- what calls answer: none, an int, a long, a reference; and the tables of calls by the class -/
abbrev FS : Type := (Nat → List Value → FM → Option FM) × (Nat → List Value → FM → Option (Int32 × FM)) × (Nat → List Value → FM → Option (Int64 × FM)) × (Nat → List Value → FM → Option (Nat × FM)) × List (List (Nat × Nat × Nat))
/-- a choice that is never computed -/
noncomputable def fi {α : Type} (c : Prop) (t e : α) : α := @ite α c (Classical.propDecidable c) t e
theorem fi_pos {α : Type} {c : Prop} {t e : α} (h : c) : fi c t e = t := if_pos h
theorem fi_neg {α : Type} {c : Prop} {t e : α} (h : ¬ c) : fi c t e = e := if_neg h
theorem fi_if {α : Type} {c : Prop} [Decidable c] {t e : α} : fi c t e = if c then t else e := by
  by_cases h : c
  · rw [fi_pos h, if_pos h]
  · rw [fi_neg h, if_neg h]
section Fe
variable {R : Type} (S : FS) (go : Nat → fm_L → List Value → FM → Option R) (kr : Option Value → FM → Option R)
/-- a call: n = (place * 16 + how many values) * 4 + what it answers -/
noncomputable def fe_call (n nx : Nat) (L : fm_L) (st : List Value) (M : FM) : Option R :=
  bif Nat.ble (n / 4 % 16) st.length && Nat.ble ((st.drop (n / 4 % 16)).map Value.category).sum 8 then
    bif Nat.beq (n % 4) 0 then (S.1 (n / 64) (st.take (n / 4 % 16)).reverse M).bind fun M' => go nx L (st.drop (n / 4 % 16)) M'
    else bif Nat.beq (n % 4) 1 then (S.2.1 (n / 64) (st.take (n / 4 % 16)).reverse M).bind fun r => go nx L (.int r.1 :: st.drop (n / 4 % 16)) r.2
    else bif Nat.beq (n % 4) 2 then (S.2.2.1 (n / 64) (st.take (n / 4 % 16)).reverse M).bind fun r => go nx L (.long r.1 :: st.drop (n / 4 % 16)) r.2
    else (S.2.2.2.1 (n / 64) (st.take (n / 4 % 16)).reverse M).bind fun r => go nx L (.ref r.1 :: st.drop (n / 4 % 16)) r.2
  else none
/-- the receiver of a call -/
def fe_recv (n : Nat) (st : List Value) : Nat := match st.drop (n / 4 % 16 - 1) with
  | .ref a :: _ => a
  | _ => 0
noncomputable def fe_disp (nx : Nat) (L : fm_L) (st : List Value) (M : FM) : List (Nat × Nat × Nat) → Option R
  | [] => none
  | (lo, hi, n) :: t => fi (fm_is M lo hi (fe_recv n st) = true) (fe_call S go n nx L st M) (fe_disp nx L st M t)
def fe_tgt (pc : Nat) (off : Int) : Nat := ((pc : Int) + off).toNat
noncomputable def fe_bin (op : Int32 → Int32 → Int32) (nx : Nat) (L : fm_L) (st : List Value) (M : FM) : Option R := match st with
  | .int y :: .int x :: st => go nx L (.int (op x y) :: st) M
  | _ => none
noncomputable def fe_div (op : Int32 → Int32 → Int32) (nx : Nat) (L : fm_L) (st : List Value) (M : FM) : Option R := match st with
  | .int y :: .int x :: st => fi (y = 0) none (go nx L (.int (op x y) :: st) M)
  | _ => none
noncomputable def fe_lbin (op : Int64 → Int64 → Int64) (nx : Nat) (L : fm_L) (st : List Value) (M : FM) : Option R := match st with
  | .long y :: .long x :: st => go nx L (.long (op x y) :: st) M
  | _ => none
noncomputable def fe_ldiv (op : Int64 → Int64 → Int64) (nx : Nat) (L : fm_L) (st : List Value) (M : FM) : Option R := match st with
  | .long y :: .long x :: st => fi (y = 0) none (go nx L (.long (op x y) :: st) M)
  | _ => none
noncomputable def fe_lsh (op : Int64 → Int32 → Int64) (nx : Nat) (L : fm_L) (st : List Value) (M : FM) : Option R := match st with
  | .int y :: .long x :: st => go nx L (.long (op x y) :: st) M
  | _ => none
noncomputable def fe_un (op : Int32 → Int32) (nx : Nat) (L : fm_L) (st : List Value) (M : FM) : Option R := match st with
  | .int x :: st => go nx L (.int (op x) :: st) M
  | _ => none
noncomputable def fe_ldi (i nx : Nat) (L : fm_L) (st : List Value) (M : FM) : Option R := match fe_lk L i with
  | some (.int x) => go nx L (.int x :: st) M
  | _ => none
noncomputable def fe_ldl (i nx : Nat) (L : fm_L) (st : List Value) (M : FM) : Option R := match fe_lk L i with
  | some (.long x) => go nx L (.long x :: st) M
  | _ => none
noncomputable def fe_lda (i nx : Nat) (L : fm_L) (st : List Value) (M : FM) : Option R := match fe_lk L i with
  | some (.ref x) => go nx L (.ref x :: st) M
  | _ => none
noncomputable def fe_br (c : Prop) (pc : Nat) (off : Int) (nx : Nat) (L : fm_L) (st : List Value) (M : FM) : Option R :=
  fi c (go (fe_tgt pc off) L st M) (go nx L st M)
noncomputable def fe_if0 (c : ClassFile.Cond) (pc : Nat) (off : Int) (nx : Nat) (L : fm_L) (st : List Value) (M : FM) : Option R := match st with
  | .int x :: st => (match c with
    | .eq => fe_br go (x = 0) pc off nx L st M
    | .ne => fe_br go (x = 0) nx 0 (fe_tgt pc off) L st M
    | .lt => fe_br go (x < 0) pc off nx L st M
    | .ge => fe_br go (0 ≤ x) pc off nx L st M
    | .gt => fe_br go (0 < x) pc off nx L st M
    | .le => fe_br go (x ≤ 0) pc off nx L st M)
  | _ => none
noncomputable def fe_if2 (c : ClassFile.Cond) (pc : Nat) (off : Int) (nx : Nat) (L : fm_L) (st : List Value) (M : FM) : Option R := match st with
  | .int y :: .int x :: st => (match c with
    | .eq => fe_br go (x = y) pc off nx L st M
    | .ne => fe_br go (x = y) nx 0 (fe_tgt pc off) L st M
    | .lt => fe_br go (x < y) pc off nx L st M
    | .ge => fe_br go (y ≤ x) pc off nx L st M
    | .gt => fe_br go (y < x) pc off nx L st M
    | .le => fe_br go (x ≤ y) pc off nx L st M)
  | _ => none
/-- references are compared where both are constants of enums, or one is none or new -/
noncomputable def fe_ifa (c : ClassFile.ACond) (pc : Nat) (off : Int) (nx : Nat) (L : fm_L) (st : List Value) (M : FM) : Option R := match st with
  | .ref y :: .ref x :: st => fi (x < 42 ∧ y < 42 ∨ 1000 ≤ x ∨ 1000 ≤ y) (match c with
    | .eq => fe_br go (x = y) pc off nx L st M
    | .ne => fe_br go (x = y) nx 0 (fe_tgt pc off) L st M) none
  | _ => none
noncomputable def fe_get (n nx : Nat) (L : fm_L) (st : List Value) (M : FM) : Option R := match st with
  | .ref a :: st => fi (fm_is M (n / 4096 % 1024) (n / 4 % 1024) a = true)
      (bif Nat.beq (n % 4) 1 then go nx L (.long (M.2.1 (n / 4194304) a 0) :: st) M
       else bif Nat.beq (n % 4) 2 then go nx L (.ref (M.2.2 (n / 4194304) a 0) :: st) M
       else go nx L (.int (M.1 (n / 4194304) a 0) :: st) M) none
  | _ => none
noncomputable def fe_put (n nx : Nat) (L : fm_L) (st : List Value) (M : FM) : Option R := match st with
  | .int v :: .ref a :: st => fi (fm_is M (n / 4096 % 1024) (n / 4 % 1024) a = true)
      (bif Nat.beq (n % 4) 0 then go nx L st (fm_sI M (n / 4194304) a 0 v)
       else bif Nat.beq (n % 4) 3 then (fi (v = 0 ∨ v = 1) (go nx L st (fm_sI M (n / 4194304) a 0 v)) none) else none) none
  | .long v :: .ref a :: st => fi (fm_is M (n / 4096 % 1024) (n / 4 % 1024) a = true)
      (bif Nat.beq (n % 4) 1 then go nx L st (fm_sL M (n / 4194304) a 0 v) else none) none
  | .ref v :: .ref a :: st => fi (fm_is M (n / 4096 % 1024) (n / 4 % 1024) a = true)
      (bif Nat.beq (n % 4) 2 then go nx L st (fm_sR M (n / 4194304) a 0 v) else none) none
  | _ => none
noncomputable def fe_ald (lo hi k : Nat) (nx : Nat) (L : fm_L) (st : List Value) (M : FM) : Option R := match st with
  | .int i :: .ref a :: st => fi (fm_is M lo hi a = true ∧ fm_in M a i = true)
      (bif Nat.beq k 0 then go nx L (.int (M.1 3 a i.toNatClampNeg) :: st) M
       else bif Nat.beq k 1 then go nx L (.long (M.2.1 3 a i.toNatClampNeg) :: st) M
       else go nx L (.ref (M.2.2 3 a i.toNatClampNeg) :: st) M) none
  | _ => none
noncomputable def fe_ast (t : Nat) (op : Int32 → Int32) (nx : Nat) (L : fm_L) (st : List Value) (M : FM) : Option R := match st with
  | .int v :: .int i :: .ref a :: st => fi (fm_is M t t a = true ∧ fm_in M a i = true) (go nx L st (fm_sI M 3 a i.toNatClampNeg (op v))) none
  | _ => none
noncomputable def fe_astl (nx : Nat) (L : fm_L) (st : List Value) (M : FM) : Option R := match st with
  | .long v :: .int i :: .ref a :: st => fi (fm_is M 902 902 a = true ∧ fm_in M a i = true) (go nx L st (fm_sL M 3 a i.toNatClampNeg v)) none
  | _ => none
/-- n = (array's class * 1024 + lo) * 1024 + hi -/
noncomputable def fe_astr (n nx : Nat) (L : fm_L) (st : List Value) (M : FM) : Option R := match st with
  | .ref v :: .int i :: .ref a :: st => fi (fm_is M (n / 1048576) (n / 1048576) a = true ∧ fm_in M a i = true)
      (fi (fm_is M (n / 1024 % 1024) (n % 1024) v = true) (go nx L st (fm_sR M 3 a i.toNatClampNeg v)) none) none
  | _ => none
noncomputable def fe_newa (t w k : Nat) (nx : Nat) (L : fm_L) (st : List Value) (M : FM) : Option R := match st with
  | .int v :: st => fi (¬ v < 0 ∧ v.toNatClampNeg * w ≤ 536870912) (go nx L (.ref (fm_nx M) :: st) (fm_newa M t k v.toNatClampNeg)) none
  | _ => none
noncomputable def fe_sw (pc : Nat) (d lo : Int) (offs : List Int) (L : fm_L) (st : List Value) (M : FM) (x : Int32) : Option R := match offs with
  | [] => go (fe_tgt pc d) L st M
  | o :: t => fi (x = Int32.ofInt lo) (go (fe_tgt pc o) L st M) (fe_sw pc d (lo + 1) t L st M x)
noncomputable def fe_lsw (pc : Nat) (d : Int) (ps : List (Int × Int)) (L : fm_L) (st : List Value) (M : FM) (x : Int32) : Option R := match ps with
  | [] => go (fe_tgt pc d) L st M
  | (v, o) :: t => fi (x = Int32.ofInt v) (go (fe_tgt pc o) L st M) (fe_lsw pc d t L st M x)
noncomputable def fe_step (ins : Instr) (pc nx : Nat) (L : fm_L) (st : List Value) (M : FM) : Option R := match ins with
  | .aconst_null => go nx L (.ref 0 :: st) M
  | .iconst v => go nx L (.int (Int32.ofInt v) :: st) M
  | .jsr_w v => go nx L (.long (Int64.ofInt v) :: st) M
  | .ldc n => go nx L (.ref n :: st) M
  | .getstatic n => go nx L (.ref n :: st) M
  | .iload i => fe_ldi go i nx L st M
  | .lload i => fe_ldl go i nx L st M
  | .aload i => fe_lda go i nx L st M
  | .istore i => (match st with
    | .int v :: st => go nx (fe_s1 L i (.int v)) st M
    | _ => none)
  | .astore i => (match st with
    | .ref v :: st => go nx (fe_s1 L i (.ref v)) st M
    | _ => none)
  | .lstore i => (match st with
    | .long v :: st => go nx (fe_s2 L i (.long v)) st M
    | _ => none)
  | .iinc i v => (match fe_lk L i with
    | some (.int x) => go nx (fe_s1 L i (.int (x + Int32.ofInt v))) st M
    | _ => none)
  | .iadd => fe_bin go (fun x y => x + y) nx L st M
  | .isub => fe_bin go (fun x y => x - y) nx L st M
  | .imul => fe_bin go (fun x y => x * y) nx L st M
  | .iand => fe_bin go (fun x y => x &&& y) nx L st M
  | .ior => fe_bin go (fun x y => x ||| y) nx L st M
  | .ixor => fe_bin go (fun x y => x ^^^ y) nx L st M
  | .ishl => fe_bin go (fun x y => x <<< (y &&& 31)) nx L st M
  | .ishr => fe_bin go (fun x y => x >>> (y &&& 31)) nx L st M
  | .iushr => fe_bin go (fun x y => (x.toUInt32 >>> (y.toUInt32 &&& Int32.toUInt32 31)).toInt32) nx L st M
  | .idiv => fe_div go (fun x y => x / y) nx L st M
  | .irem => fe_div go (fun x y => x - x / y * y) nx L st M
  | .ineg => fe_un go (fun x => -x) nx L st M
  | .i2b => fe_un go (fun x => x.toInt8.toInt32) nx L st M
  | .i2c => fe_un go (fun x => (x.toUInt32 % 65536).toInt32) nx L st M
  | .i2l => (match st with
    | .int x :: st => go nx L (.long x.toInt64 :: st) M
    | _ => none)
  | .l2i => (match st with
    | .long x :: st => go nx L (.int x.toInt32 :: st) M
    | _ => none)
  | .ladd => fe_lbin go (fun x y => x + y) nx L st M
  | .lsub => fe_lbin go (fun x y => x - y) nx L st M
  | .lmul => fe_lbin go (fun x y => x * y) nx L st M
  | .land => fe_lbin go (fun x y => x &&& y) nx L st M
  | .lor => fe_lbin go (fun x y => x ||| y) nx L st M
  | .lxor => fe_lbin go (fun x y => x ^^^ y) nx L st M
  | .ldiv => fe_ldiv go (fun x y => x / y) nx L st M
  | .lrem => fe_ldiv go (fun x y => x - x / y * y) nx L st M
  | .lneg => (match st with
    | .long x :: st => go nx L (.long (-x) :: st) M
    | _ => none)
  | .lshl => fe_lsh go (fun x y => x <<< (y.toInt64 &&& 63)) nx L st M
  | .lshr => fe_lsh go (fun x y => x >>> (y.toInt64 &&& 63)) nx L st M
  | .lushr => fe_lsh go (fun x y => (x.toUInt64 >>> (y.toInt64.toUInt64 &&& Int64.toUInt64 63)).toInt64) nx L st M
  | .lcmp => (match st with
    | .long y :: .long x :: st => go nx L (.int (lg_cmp x y) :: st) M
    | _ => none)
  | .dup => (match st with
    | .int v :: st => go nx L (.int v :: .int v :: st) M
    | .ref v :: st => go nx L (.ref v :: .ref v :: st) M
    | _ => none)
  | .dup_x1 => (match st with
    | .int v :: .ref w :: st => go nx L (.int v :: .ref w :: .int v :: st) M
    | .ref v :: .ref w :: st => go nx L (.ref v :: .ref w :: .ref v :: st) M
    | .int v :: .int w :: st => go nx L (.int v :: .int w :: .int v :: st) M
    | _ => none)
  | .dup2 => (match st with
    | .long v :: st => go nx L (.long v :: .long v :: st) M
    | .int v :: .ref w :: st => go nx L (.int v :: .ref w :: .int v :: .ref w :: st) M
    | _ => none)
  | .dup2_x1 => (match st with
    | .long v :: .ref w :: st => go nx L (.long v :: .ref w :: .long v :: st) M
    | _ => none)
  | .pop => (match st with
    | .int _ :: st => go nx L st M
    | .ref _ :: st => go nx L st M
    | _ => none)
  | .ifCond c off => fe_if0 go c pc off nx L st M
  | .if_icmp c off => fe_if2 go c pc off nx L st M
  | .if_acmp c off => fe_ifa go c pc off nx L st M
  | .ifnull off => (match st with
    | .ref x :: st => fe_br go (x = 0) pc off nx L st M
    | _ => none)
  | .ifnonnull off => (match st with
    | .ref x :: st => fe_br go (x = 0) nx 0 (fe_tgt pc off) L st M
    | _ => none)
  | .goto off => go (fe_tgt pc off) L st M
  | .tableswitch d lo hi offs => (match st with
    | .int x :: st => fe_sw go pc d lo offs.toList L st M x
    | _ => none)
  | .lookupswitch d ps => (match st with
    | .int x :: st => fe_lsw go pc d ps.toList L st M x
    | _ => none)
  | .getfield n => fe_get go n nx L st M
  | .putfield n => fe_put go n nx L st M
  | .arraylength => (match st with
    | .ref a :: st => fi (fm_is M 901 990 a = true) (go nx L (.int (Int32.ofNat (M.2.2 1 a 0)) :: st) M) none
    | _ => none)
  | .iaload => fe_ald go 901 901 0 nx L st M
  | .laload => fe_ald go 902 902 1 nx L st M
  | .baload => fe_ald go 903 903 0 nx L st M
  | .saload => fe_ald go 904 904 0 nx L st M
  | .aaload => fe_ald go 910 990 2 nx L st M
  | .iastore => fe_ast go 901 (fun x => x) nx L st M
  | .bastore => fe_ast go 903 (fun x => x.toInt8.toInt32) nx L st M
  | .sastore => fe_ast go 904 (fun x => x &&& 1) nx L st M
  | .lastore => fe_astl go nx L st M
  | .instanceof n => fe_astr go n nx L st M
  | .new n => go nx L (.ref (fm_nx M) :: st) (fm_new M (n / 64) (n % 64))
  | .newarray t => (match t with
    | .int => fe_newa go 901 4 0 nx L st M
    | .long => fe_newa go 902 8 0 nx L st M
    | .byte => fe_newa go 903 1 0 nx L st M
    | .boolean => fe_newa go 904 1 0 nx L st M
    | _ => none)
  | .anewarray n => fe_newa go (n % 1024) (fm_wd (n % 1024)) (n / 1024) nx L st M
  | .invokestatic n => fe_call S go n nx L st M
  | .invokevirtual n => fi (fm_is M (n / 1024 % 1024) (n % 1024) (fe_recv (n / 1048576) st) = true) (fe_call S go (n / 1048576) nx L st M) none
  | .invokeinterface i _ => (match S.2.2.2.2[i]? with
    | some t => fe_disp S go nx L st M t
    | none => none)
  | .checkcast n => (match st with
    | .ref a :: st => fi (fm_is M (n / 1024) (n % 1024) a = true) (go nx L (.ref a :: st) M) none
    | _ => none)
  | .monitorenter => (match st with
    | .ref a :: st => fi (a = 0) none (bif Nat.ble (st.map Value.category).sum 8 then go nx L st M else none)
    | _ => none)
  | .ireturn => (match st with
    | [.int v] => kr (some (.int v)) M
    | _ => none)
  | .freturn => (match st with
    | [.int v] => fi (v = 0 ∨ v = 1) (kr (some (.int v)) M) none
    | _ => none)
  | .lreturn => (match st with
    | [.long v] => kr (some (.long v)) M
    | _ => none)
  | .areturn => (match st with
    | [.ref v] => kr (some (.ref v)) M
    | _ => none)
  | .return_ => (match st with
    | [] => kr none M
    | _ => none)
  | _ => none
end Fe
def fe_mem : List Nat → Nat → Bool
  | [], _ => false
  | a :: t, i => Nat.beq a i || fe_mem t i
/-- the code from a place on -/
def fe_from : List (Nat × Nat × Instr) → Nat → List (Nat × Nat × Instr)
  | [], _ => []
  | q :: t, pc => bif Nat.beq q.1 pc then q :: t else fe_from t pc
def fe_sfx (code t : List (Nat × Nat × Instr)) (pc : Nat) : List (Nat × Nat × Instr) := match t with
  | q :: _ => bif Nat.beq q.1 pc then t else fe_from code pc
  | [] => fe_from code pc
section Fe2
variable {R : Type} (S : FS) (code : List (Nat × Nat × Instr)) (cut : List Nat) (kr : Option Value → FM → Option R) (kc : Nat → fm_L → List Value → FM → Option R)
/-- from an instruction on, up to a return or a cut -/
noncomputable def fe_ev : Nat → List (Nat × Nat × Instr) → fm_L → List Value → FM → Option R
  | 0, _, _, _, _ => none
  | n + 1, rest, L, st, M => match rest with
    | [] => none
    | q :: t => fe_step S (fun pc' L' st' M' => bif fe_mem cut pc' then kc pc' L' st' M' else fe_ev n (fe_sfx code t pc') L' st' M') kr q.2.2 q.1 q.2.1 L st M
end Fe2
