/-! all plain instructions are sound -/
theorem fs_fb (b : Int8) : fits .byte (.int b.toInt32) = true := by
  have h1 := b.le_toInt
  have h2 := b.toInt_lt
  have e1 : (-128 : Int32).toInt = -128 := by decide
  have e2 : (127 : Int32).toInt = 127 := by decide
  show (decide ((-128 : Int32) ≤ b.toInt32) && decide (b.toInt32 ≤ (127 : Int32))) = true
  rw [Bool.and_eq_true, decide_eq_true_eq, decide_eq_true_eq, Int32.le_iff_toInt_le, Int32.le_iff_toInt_le, Int8.toInt_toInt32, e1, e2]
  omega
section FsR
variable {E : FE} {p : Program} {l : Launch} {e : Env} {R : Room} {s : State} {m : MethodId} {args : Array Value} {below : List Frame} {meth : Method} {c : Code} {nL NF SF N0 S0 : Nat} {Q : State → Prop} {cc : ByteArray} {own : String} {ret : Option FieldType} {S : FS}
set_option maxHeartbeats 4000000 in
theorem fs_plain {pc nx : Nat} {ins : Instr} (C : fs_C E p R s m args meth c cc own nL ret NF SF N0 S0) (hwr : ∀ t, 901 ≤ t → t < 905 → E.2.2.2.2.2.2.2 t = true) (h0 : fs_ok cc ret nL pc nx ins = true) : fs_Snd S own cc ret nL E p l e R s m args below meth c NF SF N0 S0 Q pc nx ins := by
  obtain ⟨hx, hb, hml, hown, hwm, hlk, hr, hRR, hE⟩ := C
  have ety := hE.2.2.1
  cases ins
  case iadd =>
    obtain ⟨rfl, hd⟩ := fs_ti_d h0
    exact fs_bin (fun _ _ _ _ _ _ => rfl) (fun H ls locs cells slots x y rest k => lv_iadd hx hb hd k)
  case isub =>
    obtain ⟨rfl, hd⟩ := fs_ti_d h0
    exact fs_bin (fun _ _ _ _ _ _ => rfl) (fun H ls locs cells slots x y rest k => lv_isub hx hb hd k)
  case imul =>
    obtain ⟨rfl, hd⟩ := fs_ti_d h0
    exact fs_bin (fun _ _ _ _ _ _ => rfl) (fun H ls locs cells slots x y rest k => lv_imul hx hb hd k)
  case iand =>
    obtain ⟨rfl, hd⟩ := fs_ti_d h0
    exact fs_bin (fun _ _ _ _ _ _ => rfl) (fun H ls locs cells slots x y rest k => lv_iand hx hb hd k)
  case ior =>
    obtain ⟨rfl, hd⟩ := fs_ti_d h0
    exact fs_bin (fun _ _ _ _ _ _ => rfl) (fun H ls locs cells slots x y rest k => lv_ior hx hb hd k)
  case ixor =>
    obtain ⟨rfl, hd⟩ := fs_ti_d h0
    exact fs_bin (fun _ _ _ _ _ _ => rfl) (fun H ls locs cells slots x y rest k => lv_ixor hx hb hd k)
  case ishl =>
    obtain ⟨rfl, hd⟩ := fs_ti_d h0
    exact fs_bin (fun _ _ _ _ _ _ => rfl) (fun H ls locs cells slots x y rest k => lv_ishl hx hb hd k)
  case ishr =>
    obtain ⟨rfl, hd⟩ := fs_ti_d h0
    exact fs_bin (fun _ _ _ _ _ _ => rfl) (fun H ls locs cells slots x y rest k => lv_ishr hx hb hd k)
  case iushr =>
    obtain ⟨rfl, hd⟩ := fs_ti_d h0
    exact fs_bin (fun _ _ _ _ _ _ => rfl) (fun H ls locs cells slots x y rest k => lv_iushr hx hb hd rfl k)
  case ladd =>
    obtain ⟨rfl, hd⟩ := fs_ti_d h0
    exact fs_lbin (fun _ _ _ _ _ _ => rfl) (fun H ls locs cells slots x y rest k => lv_ladd hx hb hd k)
  case lsub =>
    obtain ⟨rfl, hd⟩ := fs_ti_d h0
    exact fs_lbin (fun _ _ _ _ _ _ => rfl) (fun H ls locs cells slots x y rest k => lv_lsub hx hb hd k)
  case lmul =>
    obtain ⟨rfl, hd⟩ := fs_ti_d h0
    exact fs_lbin (fun _ _ _ _ _ _ => rfl) (fun H ls locs cells slots x y rest k => lv_lmul hx hb hd k)
  case land =>
    obtain ⟨rfl, hd⟩ := fs_ti_d h0
    exact fs_lbin (fun _ _ _ _ _ _ => rfl) (fun H ls locs cells slots x y rest k => lv_land hx hb hd k)
  case lor =>
    obtain ⟨rfl, hd⟩ := fs_ti_d h0
    exact fs_lbin (fun _ _ _ _ _ _ => rfl) (fun H ls locs cells slots x y rest k => lv_lor hx hb hd k)
  case lxor =>
    obtain ⟨rfl, hd⟩ := fs_ti_d h0
    exact fs_lbin (fun _ _ _ _ _ _ => rfl) (fun H ls locs cells slots x y rest k => lv_lxor hx hb hd k)
  case lshl =>
    obtain ⟨rfl, hd⟩ := fs_ti_d h0
    exact fs_lsh (fun _ _ _ _ _ _ => rfl) (fun H ls locs cells slots x y rest k => lv_lshl hx hb hd rfl k)
  case lshr =>
    obtain ⟨rfl, hd⟩ := fs_ti_d h0
    exact fs_lsh (fun _ _ _ _ _ _ => rfl) (fun H ls locs cells slots x y rest k => lv_lshr hx hb hd rfl k)
  case lushr =>
    obtain ⟨rfl, hd⟩ := fs_ti_d h0
    exact fs_lsh (fun _ _ _ _ _ _ => rfl) (fun H ls locs cells slots x y rest k => lv_lushr hx hb hd rfl k)
  case idiv =>
    obtain ⟨rfl, hd⟩ := fs_ti_d h0
    exact fs_div (fun _ _ _ _ _ _ => rfl) (fun H ls locs cells slots x y rest hne k => lv_idiv hx hb hd hne k)
  case irem =>
    obtain ⟨rfl, hd⟩ := fs_ti_d h0
    exact fs_div (fun _ _ _ _ _ _ => rfl) (fun H ls locs cells slots x y rest hne k => lv_irem hx hb hd hne k)
  case ldiv =>
    obtain ⟨rfl, hd⟩ := fs_ti_d h0
    exact fs_ldiv (fun _ _ _ _ _ _ => rfl) (fun H ls locs cells slots x y rest hne k => lv_ldiv hx hb hd hne k)
  case lrem =>
    obtain ⟨rfl, hd⟩ := fs_ti_d h0
    exact fs_ldiv (fun _ _ _ _ _ _ => rfl) (fun H ls locs cells slots x y rest hne k => lv_lrem hx hb hd hne k)
  case ineg =>
    obtain ⟨rfl, hd⟩ := fs_ti_d h0
    exact fs_un (fun _ _ _ _ _ _ => rfl) (fun H ls locs cells slots x rest k => lv_ineg hx hb hd k)
  case i2b =>
    obtain ⟨rfl, hd⟩ := fs_ti_d h0
    exact fs_un (fun _ _ _ _ _ _ => rfl) (fun H ls locs cells slots x rest k => lv_i2b hx hb hd rfl k)
  case i2c =>
    obtain ⟨rfl, hd⟩ := fs_ti_d h0
    exact fs_un (fun _ _ _ _ _ _ => rfl) (fun H ls locs cells slots x rest k => lv_i2c hx hb hd rfl k)
  case i2l =>
    obtain ⟨rfl, hd⟩ := fs_ti_d h0
    intro Rt go kr r L st M h hgo hret
    dsimp only [fx_step, fe_step] at h
    try simp only [fi_if] at h
    split at h
    all_goals first
      | (cases h; done)
      | exact fs_pure (hgo _ _ _ _ h) (fun H ls locs cells slots k => lv_i2l hx hb hd rfl k)
  case l2i =>
    obtain ⟨rfl, hd⟩ := fs_ti_d h0
    intro Rt go kr r L st M h hgo hret
    dsimp only [fx_step, fe_step] at h
    try simp only [fi_if] at h
    split at h
    all_goals first
      | (cases h; done)
      | exact fs_pure (hgo _ _ _ _ h) (fun H ls locs cells slots k => lv_l2i hx hb hd rfl k)
  case lneg =>
    obtain ⟨rfl, hd⟩ := fs_ti_d h0
    intro Rt go kr r L st M h hgo hret
    dsimp only [fx_step, fe_step] at h
    try simp only [fi_if] at h
    split at h
    all_goals first
      | (cases h; done)
      | exact fs_pure (hgo _ _ _ _ h) (fun H ls locs cells slots k => lv_lneg hx hb hd k)
  case lcmp =>
    obtain ⟨rfl, hd⟩ := fs_ti_d h0
    intro Rt go kr r L st M h hgo hret
    dsimp only [fx_step, fe_step] at h
    try simp only [fi_if] at h
    split at h
    all_goals first
      | (cases h; done)
      | exact fs_pure (hgo _ _ _ _ h) (fun H ls locs cells slots k => W.lcmp hx hb hd k)
  case dup =>
    obtain ⟨rfl, hd⟩ := fs_ti_d h0
    intro Rt go kr r L st M h hgo hret
    dsimp only [fx_step, fe_step] at h
    try simp only [fi_if] at h
    split at h
    all_goals first
      | (cases h; done)
      | exact fs_pure (hgo _ _ _ _ h) (fun H ls locs cells slots k => lv_dup hx hb hd (fs_tr_cat E _) k)
  case dup_x1 =>
    obtain ⟨rfl, hd⟩ := fs_ti_d h0
    intro Rt go kr r L st M h hgo hret
    dsimp only [fx_step, fe_step] at h
    try simp only [fi_if] at h
    split at h
    all_goals first
      | (cases h; done)
      | exact fs_pure (hgo _ _ _ _ h) (fun H ls locs cells slots k => lv_dup_x1 hx hb hd (fs_tr_cat E _) (fs_tr_cat E _) k)
  case dup2 =>
    obtain ⟨rfl, hd⟩ := fs_ti_d h0
    intro Rt go kr r L st M h hgo hret
    dsimp only [fx_step, fe_step] at h
    try simp only [fi_if] at h
    split at h
    · exact fs_pure (hgo _ _ _ _ h) (fun H ls locs cells slots k => lv_dup2_2 hx hb hd (fs_tr_cat E _) k)
    · exact fs_pure (hgo _ _ _ _ h) (fun H ls locs cells slots k => lv_dup2_11 hx hb hd (fs_tr_cat E _) (fs_tr_cat E _) k)
    · cases h
  case dup2_x1 =>
    obtain ⟨rfl, hd⟩ := fs_ti_d h0
    intro Rt go kr r L st M h hgo hret
    dsimp only [fx_step, fe_step] at h
    try simp only [fi_if] at h
    split at h
    all_goals first
      | (cases h; done)
      | exact fs_pure (hgo _ _ _ _ h) (fun H ls locs cells slots k => lv_dup2_x1_2 hx hb hd (fs_tr_cat E _) (fs_tr_cat E _) k)
  case pop =>
    obtain ⟨rfl, hd⟩ := fs_ti_d h0
    intro Rt go kr r L st M h hgo hret
    dsimp only [fx_step, fe_step] at h
    try simp only [fi_if] at h
    split at h
    all_goals first
      | (cases h; done)
      | exact fs_pure (hgo _ _ _ _ h) (fun H ls locs cells slots k => lv_pop hx hb hd (fs_tr_cat E _) k)
  case aconst_null =>
    obtain ⟨rfl, hd⟩ := fs_ti_d h0
    intro Rt go kr r L st M h hgo hret
    exact fs_pure (hgo _ _ _ _ h) (fun H ls locs cells slots k => lv_null hx hb hd k)
  case iconst v =>
    simp only [fs_ok, Bool.or_eq_true, Bool.and_eq_true, decide_eq_true_eq] at h0
    rcases h0 with (h0 | ⟨h0, hv⟩) | ⟨h0, hv⟩
    · obtain ⟨rfl, hd⟩ := fs_ti_d h0
      intro Rt go kr r L st M h hgo hret
      exact fs_pure (hgo _ _ _ _ h) (fun H ls locs cells slots k => lv_iconst hx hb hd rfl k)
    · obtain ⟨rfl, hd⟩ := fs_ti_d h0
      intro Rt go kr r L st M h hgo hret
      exact fs_pure (hgo _ _ _ _ h) (fun H ls locs cells slots k => lv_bipush hx hb hd hv k)
    · obtain ⟨rfl, hd⟩ := fs_ti_d h0
      intro Rt go kr r L st M h hgo hret
      exact fs_pure (hgo _ _ _ _ h) (fun H ls locs cells slots k => lv_sipush hx hb hd hv k)
  case jsr_w v =>
    simp only [fs_ok, Bool.or_eq_true, Bool.and_eq_true, decide_eq_true_eq] at h0
    rcases h0 with ⟨h0, rfl⟩ | ⟨h0, rfl⟩
    · obtain ⟨rfl, hd⟩ := fs_ti_d h0
      intro Rt go kr r L st M h hgo hret
      exact fs_pure (hgo _ _ _ _ h) (fun H ls locs cells slots k => lv_lconst hx hb hd (by decide) k)
    · obtain ⟨rfl, hd⟩ := fs_ti_d h0
      intro Rt go kr r L st M h hgo hret
      exact fs_pure (hgo _ _ _ _ h) (fun H ls locs cells slots k => lv_lconst hx hb hd (by decide) k)
  case iload i =>
    simp only [fs_ok, Bool.or_eq_true] at h0
    rcases h0 with h0 | h0
    · obtain ⟨rfl, hd⟩ := fs_ti_d h0
      intro Rt go kr r L st M h hgo hret
      change fe_ldi go i (pc + 2) L st M = some r at h
      unfold fe_ldi at h
      split at h
      · rename_i x hk
        exact fs_pureL (hgo _ _ _ _ h) (fun H ls locs cells slots hl k => lv_iload hx hb hd (fs_lk hl hk) k)
      · cases h
    · split at h0
      · obtain ⟨rfl, hd⟩ := fs_ti_d h0
        intro Rt go kr r L st M h hgo hret
        change fe_ldi go i (pc + 1) L st M = some r at h
        unfold fe_ldi at h
        split at h
        · rename_i x hk
          exact fs_pureL (hgo _ _ _ _ h) (fun H ls locs cells slots hl k => lv_iload_n hx hb hd rfl (fs_lk hl hk) k)
        · cases h
      · cases h0
  case lload i =>
    simp only [fs_ok, Bool.or_eq_true] at h0
    rcases h0 with h0 | h0
    · obtain ⟨rfl, hd⟩ := fs_ti_d h0
      intro Rt go kr r L st M h hgo hret
      change fe_ldl go i (pc + 2) L st M = some r at h
      unfold fe_ldl at h
      split at h
      · rename_i x hk
        exact fs_pureL (hgo _ _ _ _ h) (fun H ls locs cells slots hl k => lv_lload hx hb hd (fs_lk hl hk) k)
      · cases h
    · split at h0
      · obtain ⟨rfl, hd⟩ := fs_ti_d h0
        intro Rt go kr r L st M h hgo hret
        change fe_ldl go i (pc + 1) L st M = some r at h
        unfold fe_ldl at h
        split at h
        · rename_i x hk
          exact fs_pureL (hgo _ _ _ _ h) (fun H ls locs cells slots hl k => lv_lload_n hx hb hd rfl (fs_lk hl hk) k)
        · cases h
      · cases h0
  case aload i =>
    simp only [fs_ok, Bool.or_eq_true] at h0
    rcases h0 with h0 | h0
    · obtain ⟨rfl, hd⟩ := fs_ti_d h0
      intro Rt go kr r L st M h hgo hret
      change fe_lda go i (pc + 2) L st M = some r at h
      unfold fe_lda at h
      split at h
      · rename_i x hk
        refine fs_pureL (hgo _ _ _ _ h) (fun H ls locs cells slots hl k => ?_)
        have hq := fs_lk hl hk
        change ls[i]? = some (.val (fs_rv E x)) at hq
        rcases fs_rv_c E x with ⟨-, e⟩ | ⟨-, e⟩
        · rw [fs_map_ref e] at k
          rw [e] at hq
          exact lv_aloadN hx hb hd hq k
        · rw [fs_map_ref e] at k
          rw [e] at hq
          exact lv_aload hx hb hd hq k
      · cases h
    · split at h0
      · obtain ⟨rfl, hd⟩ := fs_ti_d h0
        intro Rt go kr r L st M h hgo hret
        change fe_lda go i (pc + 1) L st M = some r at h
        unfold fe_lda at h
        split at h
        · rename_i x hk
          refine fs_pureL (hgo _ _ _ _ h) (fun H ls locs cells slots hl k => ?_)
          have hq := fs_lk hl hk
          change ls[i]? = some (.val (fs_rv E x)) at hq
          rcases fs_rv_c E x with ⟨-, e⟩ | ⟨-, e⟩
          · rw [fs_map_ref e] at k
            rw [e] at hq
            exact lv_aload_nN hx hb hd rfl hq k
          · rw [fs_map_ref e] at k
            rw [e] at hq
            exact lv_aload_n hx hb hd rfl hq k
        · cases h
      · cases h0
  case istore i =>
    simp only [fs_ok, Bool.or_eq_true, Bool.and_eq_true, decide_eq_true_eq] at h0
    obtain ⟨hn, h0⟩ := h0
    rcases h0 with h0 | h0
    · obtain ⟨rfl, hd⟩ := fs_ti_d h0
      intro Rt go kr r L st M h hgo hret
      dsimp only [fx_step, fe_step] at h
      try simp only [fi_if] at h
      split at h
      · exact fs_store (hgo _ _ _ _ h) (fun H ls locs cells slots hl kk => lv_istore hx hb hd hl hn (fs_lt_s1 E L i (.int _)) kk)
      · cases h
    · split at h0
      · obtain ⟨rfl, hd⟩ := fs_ti_d h0
        intro Rt go kr r L st M h hgo hret
        dsimp only [fx_step, fe_step] at h
        try simp only [fi_if] at h
        split at h
        · exact fs_store (hgo _ _ _ _ h) (fun H ls locs cells slots hl kk => lv_istore_n hx hb hd rfl hl hn (fs_lt_s1 E L i (.int _)) kk)
        · cases h
      · cases h0
  case lstore i =>
    simp only [fs_ok, Bool.or_eq_true, Bool.and_eq_true, decide_eq_true_eq] at h0
    obtain ⟨hn, h0⟩ := h0
    rcases h0 with h0 | h0
    · obtain ⟨rfl, hd⟩ := fs_ti_d h0
      intro Rt go kr r L st M h hgo hret
      dsimp only [fx_step, fe_step] at h
      try simp only [fi_if] at h
      split at h
      · exact fs_store (hgo _ _ _ _ h) (fun H ls locs cells slots hl kk => lv_lstore hx hb hd hl hn (fs_lt_s2 E L i (.long _)) kk)
      · cases h
    · split at h0
      · obtain ⟨rfl, hd⟩ := fs_ti_d h0
        intro Rt go kr r L st M h hgo hret
        dsimp only [fx_step, fe_step] at h
        try simp only [fi_if] at h
        split at h
        · exact fs_store (hgo _ _ _ _ h) (fun H ls locs cells slots hl kk => lv_lstore_n hx hb hd rfl hl hn (fs_lt_s2 E L i (.long _)) kk)
        · cases h
      · cases h0
  case astore i =>
    simp only [fs_ok, Bool.or_eq_true, Bool.and_eq_true, decide_eq_true_eq] at h0
    obtain ⟨hn, h0⟩ := h0
    rcases h0 with h0 | h0
    · obtain ⟨rfl, hd⟩ := fs_ti_d h0
      intro Rt go kr r L st M h hgo hret
      dsimp only [fx_step, fe_step] at h
      try simp only [fi_if] at h
      split at h
      · rename_i v st'
        refine fs_store (hgo _ _ _ _ h) (fun H ls locs cells slots hl kk => ?_)
        have q := fs_lt_s1 E L i (.ref v)
        change (i, fs_rv E v) :: _ = _ at q
        rcases fs_rv_c E v with ⟨-, e⟩ | ⟨-, e⟩
        · rw [fs_map_ref e]
          rw [e] at q
          exact lv_astoreN hx hb hd hl hn q kk
        · rw [fs_map_ref e]
          rw [e] at q
          exact lv_astore hx hb hd hl hn q kk
      · cases h
    · split at h0
      · obtain ⟨rfl, hd⟩ := fs_ti_d h0
        intro Rt go kr r L st M h hgo hret
        dsimp only [fx_step, fe_step] at h
        try simp only [fi_if] at h
        split at h
        · rename_i v st'
          refine fs_store (hgo _ _ _ _ h) (fun H ls locs cells slots hl kk => ?_)
          have q := fs_lt_s1 E L i (.ref v)
          change (i, fs_rv E v) :: _ = _ at q
          rcases fs_rv_c E v with ⟨-, e⟩ | ⟨-, e⟩
          · rw [fs_map_ref e]
            rw [e] at q
            exact lv_astore_nN hx hb hd rfl hl hn q kk
          · rw [fs_map_ref e]
            rw [e] at q
            exact lv_astore_n hx hb hd rfl hl hn q kk
        · cases h
      · cases h0
  case iinc i v =>
    simp only [fs_ok, Bool.and_eq_true, decide_eq_true_eq] at h0
    obtain ⟨hn, h0⟩ := h0
    obtain ⟨rfl, hd⟩ := fs_ti_d h0
    intro Rt go kr r L st M h hgo hret
    dsimp only [fx_step, fe_step] at h
    try simp only [fi_if] at h
    split at h
    · rename_i x hk
      refine fs_store (hgo _ _ _ _ h) (fun H ls locs cells slots hl kk => ?_)
      obtain ⟨k, hk⟩ := List.mem_iff_getElem?.mp (List.mem_map.mpr ⟨(i, .int x), fe_lk_mem hk, rfl⟩ : (i, fs_tr E (.int x)) ∈ fs_lt E L)
      exact lv_iinc hx hb hd hl hk rfl hn (fs_lt_s1 E L i (.int _)) kk
    · cases h
  case ifCond cnd off =>
    simp only [fs_ok, Bool.and_eq_true] at h0
    obtain ⟨ht, h0⟩ := h0
    obtain ⟨rfl, hd⟩ := fs_ti_d h0
    have ht := fs_tg_d ht
    intro Rt go kr r L st M h hgo hret
    change fe_if0 go cnd pc off (pc + 3) L st M = some r at h
    unfold fe_if0 at h
    split at h
    · cases cnd <;> dsimp only at h
      · exact fs_br h hgo (fun H ls locs cells slots k1 k2 => lv_if_eq hx hb hd ht k1 k2)
      · exact fs_br h hgo (fun H ls locs cells slots k1 k2 => lv_if_ne hx hb hd ht k2 (fun q => by have q1 := k1 q; rwa [fe_tgt0] at q1))
      · exact fs_br h hgo (fun H ls locs cells slots k1 k2 => lv_if_lt hx hb hd ht k1 k2)
      · exact fs_br h hgo (fun H ls locs cells slots k1 k2 => lv_if_ge hx hb hd ht k1 k2)
      · exact fs_br h hgo (fun H ls locs cells slots k1 k2 => lv_if_gt hx hb hd ht k1 k2)
      · exact fs_br h hgo (fun H ls locs cells slots k1 k2 => lv_if_le hx hb hd ht k1 k2)
    · cases h
  case if_icmp cnd off =>
    simp only [fs_ok, Bool.and_eq_true] at h0
    obtain ⟨ht, h0⟩ := h0
    obtain ⟨rfl, hd⟩ := fs_ti_d h0
    have ht := fs_tg_d ht
    intro Rt go kr r L st M h hgo hret
    change fe_if2 go cnd pc off (pc + 3) L st M = some r at h
    unfold fe_if2 at h
    split at h
    · cases cnd <;> dsimp only at h
      · exact fs_br h hgo (fun H ls locs cells slots k1 k2 => lv_icmp_eq hx hb hd ht k1 k2)
      · exact fs_br h hgo (fun H ls locs cells slots k1 k2 => lv_icmp_ne hx hb hd ht k2 (fun q => by have q1 := k1 q; rwa [fe_tgt0] at q1))
      · exact fs_br h hgo (fun H ls locs cells slots k1 k2 => lv_icmp_lt hx hb hd ht k1 k2)
      · exact fs_br h hgo (fun H ls locs cells slots k1 k2 => lv_icmp_ge hx hb hd ht k1 k2)
      · exact fs_br h hgo (fun H ls locs cells slots k1 k2 => lv_icmp_gt hx hb hd ht k1 k2)
      · exact fs_br h hgo (fun H ls locs cells slots k1 k2 => lv_icmp_le hx hb hd ht k1 k2)
    · cases h
  case if_acmp cnd off =>
    simp only [fs_ok, Bool.and_eq_true] at h0
    obtain ⟨ht, h0⟩ := h0
    obtain ⟨rfl, hd⟩ := fs_ti_d h0
    have ht := fs_tg_d ht
    intro Rt go kr r L st M h hgo hret
    change fe_ifa go cnd pc off (pc + 3) L st M = some r at h
    unfold fe_ifa at h
    simp only [fi_if] at h
    split at h
    · rename_i y x st'
      split at h
      · rename_i hg
        have hxy := fs_op_eq hE hg
        have e : ((Value.ref y :: Value.ref x :: st').map (fs_tr E)) = va_rf (fs_op E y) :: va_rf (fs_op E x) :: st'.map (fs_tr E) := by
          show fs_rv E y :: fs_rv E x :: _ = _
          rw [fs_op_rf, fs_op_rf]
        cases cnd <;> dsimp only at h
        · refine fs_br h hgo (fun H ls locs cells slots k1 k2 => ?_)
          rw [e]
          exact lv_acmp_eq hx hb hd ht (fun q => k1 (hxy.mp q)) (fun q => k2 (fun q2 => q (hxy.mpr q2)))
        · refine fs_br h hgo (fun H ls locs cells slots k1 k2 => ?_)
          rw [e]
          exact lv_acmp_ne hx hb hd ht (fun q => k2 (fun q2 => q (hxy.mpr q2))) (fun q => by have q1 := k1 (hxy.mp q); rwa [fe_tgt0] at q1)
      · cases h
    · cases h
  case ifnull off =>
    simp only [fs_ok, Bool.and_eq_true] at h0
    obtain ⟨ht, h0⟩ := h0
    obtain ⟨rfl, hd⟩ := fs_ti_d h0
    have ht := fs_tg_d ht
    intro Rt go kr r L st M h hgo hret
    dsimp only [fx_step, fe_step] at h
    try simp only [fi_if] at h
    split at h
    · rename_i x st'
      refine fs_br h hgo (fun H ls locs cells slots k1 k2 => ?_)
      rcases fs_rv_c E x with ⟨hx0, e⟩ | ⟨hx0, e⟩
      · rw [fs_map_ref e]
        exact lv_ifnullN hx hb hd ht (k1 hx0)
      · rw [fs_map_ref e]
        exact lv_ifnull hx hb hd (k2 hx0)
    · cases h
  case ifnonnull off =>
    simp only [fs_ok, Bool.and_eq_true] at h0
    obtain ⟨ht, h0⟩ := h0
    obtain ⟨rfl, hd⟩ := fs_ti_d h0
    have ht := fs_tg_d ht
    intro Rt go kr r L st M h hgo hret
    dsimp only [fx_step, fe_step] at h
    try simp only [fi_if] at h
    split at h
    · rename_i x st'
      refine fs_br h hgo (fun H ls locs cells slots k1 k2 => ?_)
      rcases fs_rv_c E x with ⟨hx0, e⟩ | ⟨hx0, e⟩
      · rw [fs_map_ref e]
        have q1 := k1 hx0
        rw [fe_tgt0] at q1
        exact lv_ifnonnullN hx hb hd q1
      · rw [fs_map_ref e]
        exact lv_ifnonnull hx hb hd ht (k2 hx0)
    · cases h
  case goto off =>
    simp only [fs_ok, Bool.and_eq_true] at h0
    obtain ⟨ht, h0⟩ := h0
    obtain ⟨rfl, hd⟩ := fs_ti_d h0
    have ht := fs_tg_d ht
    intro Rt go kr r L st M h hgo hret
    exact fs_pure (hgo _ _ _ _ h) (fun H ls locs cells slots k => lv_goto hx hb hd ht k)
  case arraylength =>
    obtain ⟨rfl, hd⟩ := fs_ti_d h0
    intro Rt go kr r L st M h hgo hret
    dsimp only [fx_step, fe_step] at h
    try simp only [fi_if] at h
    split at h
    · rename_i a st'
      split at h
      · rename_i hq
        refine fs_rel (hgo _ _ _ _ h) (fun H ls locs cells slots hR _ k => ?_)
        obtain ⟨t', cA, t1, t2, t3, t4, t5, t6, t7, q1, q2⟩ := fs_arr (s := s) hR (by omega) hq hwm
        rw [fs_map_ref (fs_rv_ne t6)]
        exact W.alen hx hb t5 (t4 _ _) (by rw [arrV_size]) rfl rfl hd k
      · cases h
    · cases h
  case iaload =>
    obtain ⟨rfl, hd⟩ := fs_ti_d h0
    refine fs_ald (lo := 901) (hi := 901) (k := 0) (by decide) hE hwm (fun _ _ _ _ _ _ => rfl) (fun M t a j t1 t2 => ?_) (fun H ls locs cells slots t a cell i v rest t1 t2 g1 g2 g3 g4 g5 kk => ?_)
    · obtain rfl : t = 901 := by omega
      simp [fs_av]
    · obtain rfl : t = 901 := by omega
      rw [ety.1] at g2
      exact W.iald hx hb g1 g2 g3 g4 g5 rfl rfl hd kk
  case laload =>
    obtain ⟨rfl, hd⟩ := fs_ti_d h0
    refine fs_ald (lo := 902) (hi := 902) (k := 1) (by decide) hE hwm (fun _ _ _ _ _ _ => rfl) (fun M t a j t1 t2 => ?_) (fun H ls locs cells slots t a cell i v rest t1 t2 g1 g2 g3 g4 g5 kk => ?_)
    · obtain rfl : t = 902 := by omega
      simp [fs_av]
    · obtain rfl : t = 902 := by omega
      rw [ety.2.1] at g2
      exact W.lald hx hb g1 g2 g3 g4 g5 rfl rfl hd kk
  case baload =>
    obtain ⟨rfl, hd⟩ := fs_ti_d h0
    refine fs_ald (lo := 903) (hi := 903) (k := 0) (by decide) hE hwm (fun _ _ _ _ _ _ => rfl) (fun M t a j t1 t2 => ?_) (fun H ls locs cells slots t a cell i v rest t1 t2 g1 g2 g3 g4 g5 kk => ?_)
    · obtain rfl : t = 903 := by omega
      simp [fs_av]
    · obtain rfl : t = 903 := by omega
      rw [ety.2.2.1] at g2
      exact W.bald hx hb g1 g2 g3 g4 g5 rfl rfl hd kk
  case saload =>
    obtain ⟨rfl, hd⟩ := fs_ti_d h0
    refine fs_ald (lo := 904) (hi := 904) (k := 0) (by decide) hE hwm (fun _ _ _ _ _ _ => rfl) (fun M t a j t1 t2 => ?_) (fun H ls locs cells slots t a cell i v rest t1 t2 g1 g2 g3 g4 g5 kk => ?_)
    · obtain rfl : t = 904 := by omega
      simp [fs_av]
    · obtain rfl : t = 904 := by omega
      rw [ety.2.2.2.1] at g2
      exact W.zald hx hb g1 g2 g3 g4 g5 rfl rfl hd kk
  case caload =>
    obtain ⟨rfl, hd⟩ := fs_ti_d h0
    refine fs_ald (lo := 905) (hi := 905) (k := 0) (by decide) hE hwm (fun _ _ _ _ _ _ => rfl) (fun M t a j t1 t2 => ?_) (fun H ls locs cells slots t a cell i v rest t1 t2 g1 g2 g3 g4 g5 kk => ?_)
    · obtain rfl : t = 905 := by omega
      simp [fs_av]
    · obtain rfl : t = 905 := by omega
      rw [ety.2.2.2.2.1] at g2
      exact W.bald hx hb g1 g2 g3 g4 g5 rfl rfl hd kk
  case faload =>
    obtain ⟨rfl, hd⟩ := fs_ti_d h0
    refine fs_ald (lo := 906) (hi := 906) (k := 0) (by decide) hE hwm (fun _ _ _ _ _ _ => rfl) (fun M t a j t1 t2 => ?_) (fun H ls locs cells slots t a cell i v rest t1 t2 g1 g2 g3 g4 g5 kk => ?_)
    · obtain rfl : t = 906 := by omega
      simp [fs_av]
    · obtain rfl : t = 906 := by omega
      rw [ety.2.2.2.2.2] at g2
      exact W.iald hx hb g1 g2 g3 g4 g5 rfl rfl hd kk
  case aaload =>
    obtain ⟨rfl, hd⟩ := fs_ti_d h0
    refine fs_ald (lo := 910) (hi := 990) (k := 2) (by decide) hE hwm (fun _ _ _ _ _ _ => rfl) (fun M t a j t1 t2 => ?_) (fun H ls locs cells slots t a cell i v rest t1 t2 g1 g2 g3 g4 g5 kk => ?_)
    · unfold fs_av
      rw [if_neg (by omega), if_neg (by omega)]
      rfl
    · exact W.aald hx hb g1 g2 (hE.2.2.2.1 t t1) g3 g4 g5 rfl rfl hd kk
  case iastore =>
    obtain ⟨rfl, hd⟩ := fs_ti_d h0
    refine fs_ast (t := 901) (by decide) (by decide) (by decide) hE (hwr _ (by decide) (by decide)) hwm (fun _ _ _ _ _ _ => rfl) (fun H ls locs cells slots a cell i x rest g1 g2 g3 g4 kk => ?_) (fun h => absurd h (by decide))
    rw [ety.1] at g2
    exact W.iast hx hb g1 g2 g3 g4 rfl rfl hd kk
  case bastore =>
    obtain ⟨rfl, hd⟩ := fs_ti_d h0
    refine fs_ast (t := 903) (by decide) (by decide) (by decide) hE (hwr _ (by decide) (by decide)) hwm (fun _ _ _ _ _ _ => rfl) (fun H ls locs cells slots a cell i x rest g1 g2 g3 g4 kk => ?_) (fun _ x => fs_fb x.toInt8)
    rw [ety.2.2.1] at g2
    exact W.bast hx hb g1 g2 g3 g4 rfl rfl hd kk
  case sastore =>
    obtain ⟨rfl, hd⟩ := fs_ti_d h0
    refine fs_ast (t := 904) (by decide) (by decide) (by decide) hE (hwr _ (by decide) (by decide)) hwm (fun _ _ _ _ _ _ => rfl) (fun H ls locs cells slots a cell i x rest g1 g2 g3 g4 kk => ?_) (fun h => absurd h (by decide))
    rw [ety.2.2.2.1] at g2
    exact W.zast hx hb g1 g2 g3 g4 rfl rfl hd kk
  case lastore =>
    obtain ⟨rfl, hd⟩ := fs_ti_d h0
    exact fs_astl hE (hwr _ (by decide) (by decide)) hwm hx hb hd
  case ireturn =>
    simp only [fs_ok, Bool.and_eq_true, decide_eq_true_eq] at h0
    obtain ⟨h0, hrt⟩ := h0
    obtain ⟨rfl, hd⟩ := fs_ti_d h0
    intro Rt go kr r L st M h hgo hret
    dsimp only [fx_step, fe_step] at h
    try simp only [fi_if] at h
    split at h
    · have q := hret _ _ h
      exact ⟨q.1, fun H ls locs cells slots h1 h2 h3 h4 h5 => q.2 H ls locs cells slots pc h1 h3 h4 h5 ⟨hd, hrt.elim Or.inl (fun h => Or.inr (Or.inr h))⟩⟩
    · cases h
  case lreturn =>
    simp only [fs_ok, Bool.and_eq_true, decide_eq_true_eq] at h0
    obtain ⟨h0, hrt⟩ := h0
    obtain ⟨rfl, hd⟩ := fs_ti_d h0
    intro Rt go kr r L st M h hgo hret
    dsimp only [fx_step, fe_step] at h
    try simp only [fi_if] at h
    split at h
    · have q := hret _ _ h
      exact ⟨q.1, fun H ls locs cells slots h1 h2 h3 h4 h5 => q.2 H ls locs cells slots pc h1 h3 h4 h5 ⟨hd, hrt⟩⟩
    · cases h
  case return_ =>
    simp only [fs_ok, Bool.and_eq_true, decide_eq_true_eq] at h0
    obtain ⟨h0, hrt⟩ := h0
    obtain ⟨rfl, hd⟩ := fs_ti_d h0
    intro Rt go kr r L st M h hgo hret
    dsimp only [fx_step, fe_step] at h
    try simp only [fi_if] at h
    split at h
    · have q := hret _ _ h
      exact ⟨q.1, fun H ls locs cells slots h1 h2 h3 h4 h5 => q.2 H ls locs cells slots pc h1 h3 h4 h5 ⟨hd, hrt⟩⟩
    · cases h
  case freturn =>
    simp only [fs_ok, Bool.and_eq_true, decide_eq_true_eq] at h0
    obtain ⟨h0, hrt⟩ := h0
    obtain ⟨rfl, hd⟩ := fs_ti_d h0
    intro Rt go kr r L st M h hgo hret
    dsimp only [fx_step, fe_step] at h
    try simp only [fi_if] at h
    split at h
    · split at h
      · rename_i hv
        have q := hret _ _ h
        exact ⟨q.1, fun H ls locs cells slots h1 h2 h3 h4 h5 => q.2 H ls locs cells slots pc h1 h3 h4 h5 ⟨hd, Or.inr (Or.inl ⟨hrt, hv⟩)⟩⟩
      · cases h
    · cases h
  case areturn =>
    simp only [fs_ok, Bool.and_eq_true] at h0
    obtain ⟨h0, hrt⟩ := h0
    obtain ⟨rfl, hd⟩ := fs_ti_d h0
    intro Rt go kr r L st M h hgo hret
    dsimp only [fx_step, fe_step] at h
    try simp only [fi_if] at h
    split at h
    · have q := hret _ _ h
      refine ⟨q.1, fun H ls locs cells slots h1 h2 h3 h4 h5 => q.2 H ls locs cells slots pc h1 h3 h4 h5 ⟨hd, ?_⟩⟩
      split at hrt
      · exact Or.inl ⟨_, rfl⟩
      · exact Or.inr ⟨_, rfl⟩
      · cases hrt
    · cases h
  all_goals exact absurd h0 (by simp [fs_ok])
end FsR
