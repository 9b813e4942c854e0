/-! WALKS (by gen/mkwalk.py out of the bytecode) -/
set_option maxRecDepth 100000
abbrev YX4_init : mY := (RX4, cX4_init, 3, (Option.none : Option Jvm.ClassFile.FieldType), 1, 26, true)
theorem YOK_X4_init : YOK yX4_init 2 := ⟨⟨by decide +kernel, by decide +kernel⟩, by decide +kernel⟩
theorem mX4_init {G : gG} (s0 : St) {this : Nat} {p0 : Option Nat} {p1 : Int32} {sE : St} (h : sX4_init s0 this p0 p1 = some sE) : Mt G YX4_init yX4_init [rV (some this), rV p0, iV p1] s0 none sE := by
  refine go_start (ls0 := [(0, rV (some this)), (1, rV p0), (2, iV p1)]) (by decide +kernel) rfl (fun _ => rfl) (Nat.le_of_ble_eq_true rfl) rfl ?_
  revert h
  unfold sX4_init
  refine im (go_aload_n (pc := 0) (Y := YX4_init) 0 dX4_init_0 rfl rfl) ?_
  refine im (go_objI (pc := 1) (Y := YX4_init) q296 (Nat.le_of_ble_eq_true rfl) (Nat.le_of_ble_eq_true rfl) q167 q168 dX4_init_1) ?_
  refine im (go_aload_n (pc := 4) (Y := YX4_init) 0 dX4_init_4 rfl rfl) ?_
  refine im (go_aload_n (pc := 5) (Y := YX4_init) 1 dX4_init_5 rfl rfl) ?_
  refine flp (go_pR (pc := 6) (Y := YX4_init) fF1023 (by decide) q297 (Or.inl rfl) (Or.inr ⟨rfl, rfl⟩) rfl (Or.inr ⟨_, rfl⟩) dX4_init_6) (fun s1 => ?_)
  refine im (go_aload_n (pc := 9) (Y := YX4_init) 0 dX4_init_9 rfl rfl) ?_
  refine im (go_iload_n (pc := 10) (Y := YX4_init) 2 dX4_init_10 rfl rfl) ?_
  refine flp (go_pI (pc := 11) (Y := YX4_init) fF47 (by decide) q298 (Or.inl rfl) (Or.inr ⟨rfl, rfl⟩) rfl rfl rfl dX4_init_11) (fun s2 => ?_)
  refine e1 (fun q0 => ?_)
  subst q0
  exact go_vret (pc := 14) (Y := YX4_init) rfl dX4_init_14
abbrev YX5_init : mY := (RX5, cX5_init, 1, (Option.none : Option Jvm.ClassFile.FieldType), 4, 86, true)
theorem YOK_X5_init : YOK yX5_init 0 := ⟨⟨by decide +kernel, by decide +kernel⟩, by decide +kernel⟩
theorem mX5_init {G : gG} (s0 : St) {this : Nat} {sE : St} (h : sX5_init s0 this = some sE) : Mt G YX5_init yX5_init [rV (some this)] s0 none sE := by
  refine go_start (ls0 := [(0, rV (some this))]) (by decide +kernel) rfl (fun _ => rfl) (Nat.le_of_ble_eq_true rfl) rfl ?_
  revert h
  unfold sX5_init
  refine im (go_aload_n (pc := 0) (Y := YX5_init) 0 dX5_init_0 rfl rfl) ?_
  refine im (go_objI (pc := 1) (Y := YX5_init) q316 (Nat.le_of_ble_eq_true rfl) (Nat.le_of_ble_eq_true rfl) q167 q168 dX5_init_1) ?_
  refine im (go_aload_n (pc := 4) (Y := YX5_init) 0 dX5_init_4 rfl rfl) ?_
  refine im (go_iconst (pc := 5) (Y := YX5_init) (v := -1) dX5_init_5 rfl) ?_
  refine flp (go_pI (pc := 6) (Y := YX5_init) fF49 (by decide) q319 (Or.inl rfl) (Or.inl rfl) rfl rfl rfl dX5_init_6) (fun s1 => ?_)
  refine im (go_aload_n (pc := 9) (Y := YX5_init) 0 dX5_init_9 rfl rfl) ?_
  refine flp (go_nwO (pc := 10) (Y := YX5_init) (c0 := 1) (q := (RJ2, TJ2, 3)) rfl rfl q317 q170 q132 dX5_init_10) (fun s2 a3 => ?_)
  refine im (go_dup (pc := 13) (Y := YX5_init) dX5_init_13 rfl) ?_
  refine bpg (fun s4 he5 => ?_)
  refine im (go_callI (pc := 14) (Y := YX5_init) (Yc := YJ2_init) (y := yJ2_init) (n := 0) a3 [] [rV (some a3), rV (some this)] rfl (mJ2_init s2 he5) YOK_J2_init rfl rfl q173 rfl q132 q172 q318 (Nat.le_of_ble_eq_true rfl) (Nat.le_of_ble_eq_true rfl) (Nat.le_of_ble_eq_true rfl) dX5_init_14 (st2 := [rV (some a3), rV (some this)]) rfl) ?_
  clear he5
  refine flp (go_pR (pc := 17) (Y := YX5_init) fF1024 (by decide) q330 (Or.inl rfl) (Or.inr ⟨rfl, rfl⟩) rfl (Or.inl ⟨_, rfl⟩) dX5_init_17) (fun s6 => ?_)
  refine im (go_aload_n (pc := 20) (Y := YX5_init) 0 dX5_init_20 rfl rfl) ?_
  refine flp (go_nwO (pc := 21) (Y := YX5_init) (c0 := 1) (q := (RJ2, TJ2, 3)) rfl rfl q317 q170 q132 dX5_init_21) (fun s7 a8 => ?_)
  refine im (go_dup (pc := 24) (Y := YX5_init) dX5_init_24 rfl) ?_
  refine bpg (fun s9 he10 => ?_)
  refine im (go_callI (pc := 25) (Y := YX5_init) (Yc := YJ2_init) (y := yJ2_init) (n := 0) a8 [] [rV (some a8), rV (some this)] rfl (mJ2_init s7 he10) YOK_J2_init rfl rfl q173 rfl q132 q172 q318 (Nat.le_of_ble_eq_true rfl) (Nat.le_of_ble_eq_true rfl) (Nat.le_of_ble_eq_true rfl) dX5_init_25 (st2 := [rV (some a8), rV (some this)]) rfl) ?_
  clear he10
  refine flp (go_pR (pc := 28) (Y := YX5_init) fF1025 (by decide) q333 (Or.inl rfl) (Or.inr ⟨rfl, rfl⟩) rfl (Or.inl ⟨_, rfl⟩) dX5_init_28) (fun s11 => ?_)
  refine im (go_aload_n (pc := 31) (Y := YX5_init) 0 dX5_init_31 rfl rfl) ?_
  refine flp (go_nwO (pc := 32) (Y := YX5_init) (c0 := 1) (q := (RJ2, TJ2, 3)) rfl rfl q317 q170 q132 dX5_init_32) (fun s12 a13 => ?_)
  refine im (go_dup (pc := 35) (Y := YX5_init) dX5_init_35 rfl) ?_
  refine bpg (fun s14 he15 => ?_)
  refine im (go_callI (pc := 36) (Y := YX5_init) (Yc := YJ2_init) (y := yJ2_init) (n := 0) a13 [] [rV (some a13), rV (some this)] rfl (mJ2_init s12 he15) YOK_J2_init rfl rfl q173 rfl q132 q172 q318 (Nat.le_of_ble_eq_true rfl) (Nat.le_of_ble_eq_true rfl) (Nat.le_of_ble_eq_true rfl) dX5_init_36 (st2 := [rV (some a13), rV (some this)]) rfl) ?_
  clear he15
  refine flp (go_pR (pc := 39) (Y := YX5_init) fF1026 (by decide) q337 (Or.inl rfl) (Or.inr ⟨rfl, rfl⟩) rfl (Or.inl ⟨_, rfl⟩) dX5_init_39) (fun s16 => ?_)
  refine im (go_aload_n (pc := 42) (Y := YX5_init) 0 dX5_init_42 rfl rfl) ?_
  refine flp (go_nwO (pc := 43) (Y := YX5_init) (c0 := 1) (q := (RJ2, TJ2, 3)) rfl rfl q317 q170 q132 dX5_init_43) (fun s17 a18 => ?_)
  refine im (go_dup (pc := 46) (Y := YX5_init) dX5_init_46 rfl) ?_
  refine bpg (fun s19 he20 => ?_)
  refine im (go_callI (pc := 47) (Y := YX5_init) (Yc := YJ2_init) (y := yJ2_init) (n := 0) a18 [] [rV (some a18), rV (some this)] rfl (mJ2_init s17 he20) YOK_J2_init rfl rfl q173 rfl q132 q172 q318 (Nat.le_of_ble_eq_true rfl) (Nat.le_of_ble_eq_true rfl) (Nat.le_of_ble_eq_true rfl) dX5_init_47 (st2 := [rV (some a18), rV (some this)]) rfl) ?_
  clear he20
  refine flp (go_pR (pc := 50) (Y := YX5_init) fF1027 (by decide) q340 (Or.inl rfl) (Or.inr ⟨rfl, rfl⟩) rfl (Or.inl ⟨_, rfl⟩) dX5_init_50) (fun s21 => ?_)
  refine im (go_aload_n (pc := 53) (Y := YX5_init) 0 dX5_init_53 rfl rfl) ?_
  refine im (go_iconst (pc := 54) (Y := YX5_init) (v := 4) dX5_init_54 rfl) ?_
  refine flp (go_nwA1 (pc := 55) (Y := YX5_init) dX5_init_55) (fun s22 a23 => ?_)
  refine flp (go_pR (pc := 57) (Y := YX5_init) fF1028 (by decide) q344 (Or.inl rfl) (Or.inr ⟨rfl, rfl⟩) rfl (Or.inr ⟨_, rfl⟩) dX5_init_57) (fun s24 => ?_)
  refine e1 (fun q0 => ?_)
  subst q0
  exact go_vret (pc := 60) (Y := YX5_init) rfl dX5_init_60
abbrev YX4_look : mY := (RX4, cX4_look, 1, (Option.some .int), 0, 0, false)
theorem YOK_X4_look : YOK yX4_look 0 := ⟨⟨by decide +kernel, by decide +kernel⟩, by decide +kernel⟩
theorem mX4_look {G : gG} (s0 : St) {this : Nat} {vE : Int32} (h : sX4_look s0 this = some vE) : Mt G YX4_look yX4_look [rV (some this)] s0 (some (iV vE)) s0 := by
  refine go_start (ls0 := [(0, rV (some this))]) (by decide +kernel) rfl (fun h => by cases h) (Nat.le_of_ble_eq_true rfl) rfl ?_
  revert h
  unfold sX4_look
  refine im (go_aload_n (pc := 0) (Y := YX4_look) 0 dX4_look_0 rfl rfl) ?_
  refine flp (go_gI (pc := 1) (Y := YX4_look) fF48 (by decide) q299 (Or.inl rfl) dX4_look_1) (fun v1 => ?_)
  refine im (go_aload_n (pc := 4) (Y := YX4_look) 0 dX4_look_4 rfl rfl) ?_
  refine flp (go_gI (pc := 5) (Y := YX4_look) fF47 (by decide) q298 (Or.inl rfl) dX4_look_5) (fun v2 => ?_)
  refine flp2 (go_icmp_ge (pc := 8) (Y := YX4_look) 27 dX4_look_8 (by decide)) ?_ ?_
  · refine im (go_iconst (pc := 27) (Y := YX4_look) (v := -1) dX4_look_27 rfl) ?_
    refine e1 (fun q0 => ?_)
    subst q0
    exact go_iret (pc := 28) (Y := YX4_look) rfl dX4_look_28
  · refine im (go_aload_n (pc := 11) (Y := YX4_look) 0 dX4_look_11 rfl rfl) ?_
    refine flp (go_gR (pc := 12) (Y := YX4_look) fF1023 (by decide) q297 (Or.inl rfl) dX4_look_12) (fun v3 => ?_)
    refine im (go_aload_n (pc := 15) (Y := YX4_look) 0 dX4_look_15 rfl rfl) ?_
    refine flp (go_gI (pc := 16) (Y := YX4_look) fF48 (by decide) q299 (Or.inl rfl) dX4_look_16) (fun v4 => ?_)
    refine flp (go_lI2 (pc := 19) (Y := YX4_look) dX4_look_19) (fun v5 => ?_)
    refine im (go_sipush (pc := 20) (Y := YX4_look) (v := 255) dX4_look_20 rfl) ?_
    refine im (go_iand (pc := 23) (Y := YX4_look) dX4_look_23) ?_
    refine im (go_goto (pc := 24) (Y := YX4_look) 28 dX4_look_24 (by decide)) ?_
    refine e1 (fun q0 => ?_)
    subst q0
    exact go_iret (pc := 28) (Y := YX4_look) rfl dX4_look_28
abbrev YX6_init : mY := (RX6, cX6_init, 5, (Option.none : Option Jvm.ClassFile.FieldType), 1, 26, true)
theorem YOK_X6_init : YOK yX6_init 4 := ⟨⟨by decide +kernel, by decide +kernel⟩, by decide +kernel⟩
theorem mX6_init {G : gG} (s0 : St) {this : Nat} {p0 : Int32} {p1 : Int32} {p2 : Int32} {p3 : Option Nat} {sE : St} (h : sX6_init s0 this p0 p1 p2 p3 = some sE) : Mt G YX6_init yX6_init [rV (some this), iV p0, iV p1, iV p2, rV p3] s0 none sE := by
  refine go_start (ls0 := [(0, rV (some this)), (1, iV p0), (2, iV p1), (3, iV p2), (4, rV p3)]) (by decide +kernel) rfl (fun _ => rfl) (Nat.le_of_ble_eq_true rfl) rfl ?_
  revert h
  unfold sX6_init
  refine im (go_aload_n (pc := 0) (Y := YX6_init) 0 dX6_init_0 rfl rfl) ?_
  refine im (go_objI (pc := 1) (Y := YX6_init) q382 (Nat.le_of_ble_eq_true rfl) (Nat.le_of_ble_eq_true rfl) q167 q168 dX6_init_1) ?_
  refine im (go_aload_n (pc := 4) (Y := YX6_init) 0 dX6_init_4 rfl rfl) ?_
  refine im (go_iload_n (pc := 5) (Y := YX6_init) 1 dX6_init_5 rfl rfl) ?_
  refine flp (go_pI (pc := 6) (Y := YX6_init) fF54 (by decide) q383 (Or.inl rfl) (Or.inr ⟨rfl, rfl⟩) rfl rfl rfl dX6_init_6) (fun s1 => ?_)
  refine im (go_aload_n (pc := 9) (Y := YX6_init) 0 dX6_init_9 rfl rfl) ?_
  refine im (go_iload_n (pc := 10) (Y := YX6_init) 2 dX6_init_10 rfl rfl) ?_
  refine flp (go_pI (pc := 11) (Y := YX6_init) fF55 (by decide) q385 (Or.inl rfl) (Or.inr ⟨rfl, rfl⟩) rfl rfl rfl dX6_init_11) (fun s2 => ?_)
  refine im (go_aload_n (pc := 14) (Y := YX6_init) 0 dX6_init_14 rfl rfl) ?_
  refine im (go_iload_n (pc := 15) (Y := YX6_init) 3 dX6_init_15 rfl rfl) ?_
  refine flp (go_pI (pc := 16) (Y := YX6_init) fF56 (by decide) q387 (Or.inl rfl) (Or.inr ⟨rfl, rfl⟩) rfl rfl rfl dX6_init_16) (fun s3 => ?_)
  refine im (go_aload_n (pc := 19) (Y := YX6_init) 0 dX6_init_19 rfl rfl) ?_
  refine im (go_aload (pc := 20) (Y := YX6_init) 4 dX6_init_20 rfl) ?_
  refine flp (go_pR (pc := 22) (Y := YX6_init) fF1029 (by decide) q389 (Or.inl rfl) (Or.inr ⟨rfl, rfl⟩) rfl (Or.inl ⟨_, rfl⟩) dX6_init_22) (fun s4 => ?_)
  refine e1 (fun q0 => ?_)
  subst q0
  exact go_vret (pc := 25) (Y := YX6_init) rfl dX6_init_25
abbrev YX4_next : mY := (RX4, cX4_next, 3, (Option.some (.object "ThirdWitness$Token")), 6, 137, false)
theorem YOK_X4_next : YOK yX4_next 0 := ⟨⟨by decide +kernel, by decide +kernel⟩, by decide +kernel⟩
theorem sX4_next_L0_go {G : gG} {s0 sE : St} {rE : Option V3} (this : Nat) : ∀ (n : Nat) (s1 : St) (s2 : St), sX4_next_L0 this n s1 = some s2 → Go G YX4_next s0 sE rE 22 [(0, rV (some this))] [] s2 → Go G YX4_next s0 sE rE 0 [(0, rV (some this))] [] s1 := by
  intro n
  induction n with
  | zero => intro s1 s2 h hx; rw [sX4_next_L0] at h; cases h
  | succ n ih =>
    intro s1 s2 h hx
    revert h
    rw [sX4_next_L0]
    refine im (go_aload_n (pc := 0) (Y := YX4_next) 0 dX4_next_0 rfl rfl) ?_
    refine kdg (fun k3 => ?_)
    refine bpg (fun v4 he5 => ?_)
    refine im (go_callV (pc := 1) (Y := YX4_next) (Yc := YX4_look) (y := yX4_look) (n := 0) (c0 := 4) (q := (RX4, TX4, 3)) this [] [] rfl rfl k3 (mX4_look s1 he5) YOK_X4_look rfl q375 q135 q374 qs1 q372 (Nat.le_of_ble_eq_true rfl) (Nat.le_of_ble_eq_true rfl) (Nat.le_of_ble_eq_true rfl) dX4_next_1 (st2 := [iV v4]) rfl) ?_
    clear he5
    refine im (go_bipush (pc := 4) (Y := YX4_next) (v := 32) dX4_next_4 rfl) ?_
    refine flp2 (go_icmp_ne (pc := 6) (Y := YX4_next) 22 dX4_next_6 (by decide)) ?_ ?_
    · refine im (go_aload_n (pc := 9) (Y := YX4_next) 0 dX4_next_9 rfl rfl) ?_
      refine im (go_dup (pc := 10) (Y := YX4_next) dX4_next_10 rfl) ?_
      refine flp (go_gI (pc := 11) (Y := YX4_next) fF48 (by decide) q299 (Or.inl rfl) dX4_next_11) (fun v6 => ?_)
      refine im (go_iconst (pc := 14) (Y := YX4_next) (v := 1) dX4_next_14 rfl) ?_
      refine im (go_iadd (pc := 15) (Y := YX4_next) dX4_next_15) ?_
      refine flp (go_pI (pc := 16) (Y := YX4_next) fF48 (by decide) q299 (Or.inl rfl) (Or.inl rfl) rfl rfl rfl dX4_next_16) (fun s7 => ?_)
      refine im (go_goto (pc := 19) (Y := YX4_next) 0 dX4_next_19 (by decide)) ?_
      exact fun hq => go_sub [0] rfl (ih _ _ hq hx)
    · refine e1 (fun q0 => ?_)
      subst q0
      exact go_sub [0] rfl hx
theorem sX4_next_L167_go {G : gG} {s0 sE : St} {rE : Option V3} (this : Nat) (i1 : Int32) : ∀ (n : Nat) (s38 : St) (v39 : Int32) (s40 : St) (v41 : Int32), sX4_next_L167 this i1 n s38 v39 = some (s40, v41) → Go G YX4_next s0 sE rE 217 [(0, rV (some this)), (1, iV i1), (2, iV v41)] [] s40 → Go G YX4_next s0 sE rE 167 [(0, rV (some this)), (1, iV i1), (2, iV v39)] [] s38 := by
  intro n
  induction n with
  | zero => intro s38 v39 s40 v41 h hx; rw [sX4_next_L167] at h; cases h
  | succ n ih =>
    intro s38 v39 s40 v41 h hx
    revert h
    rw [sX4_next_L167]
    refine im (go_aload_n (pc := 167) (Y := YX4_next) 0 dX4_next_167 rfl rfl) ?_
    refine kdg (fun k42 => ?_)
    refine bpg (fun v43 he44 => ?_)
    refine im (go_callV (pc := 168) (Y := YX4_next) (Yc := YX4_look) (y := yX4_look) (n := 0) (c0 := 4) (q := (RX4, TX4, 3)) this [] [] rfl rfl k42 (mX4_look s38 he44) YOK_X4_look rfl q375 q135 q374 qs1 q372 (Nat.le_of_ble_eq_true rfl) (Nat.le_of_ble_eq_true rfl) (Nat.le_of_ble_eq_true rfl) dX4_next_168 (st2 := [iV v43]) rfl) ?_
    clear he44
    refine im (go_bipush (pc := 171) (Y := YX4_next) (v := 48) dX4_next_171 rfl) ?_
    refine im (go_bipush (pc := 173) (Y := YX4_next) (v := 57) dX4_next_173 rfl) ?_
    refine bpg (fun v45 he46 => ?_)
    refine im (go_callSN (pc := 175) (Y := YX4_next) (Yc := YX1_in) (y := yX1_in) (n := 3) (host := "ThirdWitness") [iV v43, iV 48, iV 57] [] rfl (mX1_in s38 he46) YOK_X1_in rfl q284 q129 q283 (by decide +kernel) (Nat.le_of_ble_eq_true rfl) (Nat.le_of_ble_eq_true rfl) (Nat.le_of_ble_eq_true rfl) dX4_next_175 (st2 := [iV v45]) rfl) ?_
    clear he46
    refine flp2 (go_if_eq (pc := 178) (Y := YX4_next) 217 dX4_next_178 (by decide)) ?_ ?_
    · refine e2 (fun q0 q1 => ?_)
      subst q0
      subst q1
      exact go_sub [0, 1, 2] rfl hx
    · refine im (go_aload_n (pc := 181) (Y := YX4_next) 0 dX4_next_181 rfl rfl) ?_
      refine flp (go_gI (pc := 182) (Y := YX4_next) fF48 (by decide) q299 (Or.inl rfl) dX4_next_182) (fun v47 => ?_)
      refine im (go_iload_n (pc := 185) (Y := YX4_next) 1 dX4_next_185 rfl rfl) ?_
      refine im (go_isub (pc := 186) (Y := YX4_next) dX4_next_186) ?_
      refine im (go_iconst (pc := 187) (Y := YX4_next) (v := 3) dX4_next_187 rfl) ?_
      refine bpg (fun v48 he54 h55 => ?_)
      have hj204 : Go G YX4_next s0 sE rE 204 [(0, rV (some this)), (1, iV i1), (2, iV v48)] [] s38 := by
        clear he54
        revert h55
        refine im (go_aload_n (pc := 204) (Y := YX4_next) 0 dX4_next_204 rfl rfl) ?_
        refine im (go_dup (pc := 205) (Y := YX4_next) dX4_next_205 rfl) ?_
        refine flp (go_gI (pc := 206) (Y := YX4_next) fF48 (by decide) q299 (Or.inl rfl) dX4_next_206) (fun v49 => ?_)
        refine im (go_iconst (pc := 209) (Y := YX4_next) (v := 1) dX4_next_209 rfl) ?_
        refine im (go_iadd (pc := 210) (Y := YX4_next) dX4_next_210) ?_
        refine flp (go_pI (pc := 211) (Y := YX4_next) fF48 (by decide) q299 (Or.inl rfl) (Or.inl rfl) rfl rfl rfl dX4_next_211) (fun s50 => ?_)
        refine im (go_goto (pc := 214) (Y := YX4_next) 167 dX4_next_214 (by decide)) ?_
        exact fun hq => go_sub [0, 1, 2] rfl (ih _ _ _ _ hq hx)
      clear h55
      revert he54
      refine flp2 (go_icmp_ge (pc := 188) (Y := YX4_next) 204 dX4_next_188 (by decide)) ?_ ?_
      · refine e1 (fun q0 => ?_)
        subst q0
        exact go_sub [0, 1, 2] rfl hj204
      · refine im (go_bipush (pc := 191) (Y := YX4_next) (v := 10) dX4_next_191 rfl) ?_
        refine im (go_iload_n (pc := 193) (Y := YX4_next) 2 dX4_next_193 rfl rfl) ?_
        refine im (go_imul (pc := 194) (Y := YX4_next) dX4_next_194) ?_
        refine im (go_aload_n (pc := 195) (Y := YX4_next) 0 dX4_next_195 rfl rfl) ?_
        refine kdg (fun k51 => ?_)
        refine bpg (fun v52 he53 => ?_)
        refine im (go_callV (pc := 196) (Y := YX4_next) (Yc := YX4_look) (y := yX4_look) (n := 0) (c0 := 4) (q := (RX4, TX4, 3)) this [] [iV (10 * v39)] rfl rfl k51 (mX4_look s38 he53) YOK_X4_look rfl q375 q135 q374 qs1 q372 (Nat.le_of_ble_eq_true rfl) (Nat.le_of_ble_eq_true rfl) (Nat.le_of_ble_eq_true rfl) dX4_next_196 (st2 := [iV v52, iV (10 * v39)]) rfl) ?_
        clear he53
        refine im (go_iadd (pc := 199) (Y := YX4_next) dX4_next_199) ?_
        refine im (go_bipush (pc := 200) (Y := YX4_next) (v := 48) dX4_next_200 rfl) ?_
        refine im (go_isub (pc := 202) (Y := YX4_next) dX4_next_202) ?_
        refine im (go_istore_n (pc := 203) (Y := YX4_next) (ls2 := [(2, iV (((10 * v39) + v52) - 48)), (0, rV (some this)), (1, iV i1)]) dX4_next_203 rfl (Nat.le_of_ble_eq_true rfl) rfl) ?_
        refine e1 (fun q0 => ?_)
        subst q0
        exact go_sub [1, 2, 0] rfl hj204
theorem sX4_next_L73_go {G : gG} {s0 sE : St} {rE : Option V3} (this : Nat) (i1 : Int32) (i2 : Option Nat) : ∀ (n : Nat) (s72 : St) (s73 : St), sX4_next_L73 this i1 i2 n s72 = some s73 → Go G YX4_next s0 sE rE 121 [(0, rV (some this)), (1, iV i1), (2, rV i2)] [] s73 → Go G YX4_next s0 sE rE 73 [(0, rV (some this)), (1, iV i1), (2, rV i2)] [] s72 := by
  intro n
  induction n with
  | zero => intro s72 s73 h hx; rw [sX4_next_L73] at h; cases h
  | succ n ih =>
    intro s72 s73 h hx
    revert h
    rw [sX4_next_L73]
    refine im (go_aload_n (pc := 73) (Y := YX4_next) 0 dX4_next_73 rfl rfl) ?_
    refine kdg (fun k74 => ?_)
    refine bpg (fun v75 he76 => ?_)
    refine im (go_callV (pc := 74) (Y := YX4_next) (Yc := YX4_look) (y := yX4_look) (n := 0) (c0 := 4) (q := (RX4, TX4, 3)) this [] [] rfl rfl k74 (mX4_look s72 he76) YOK_X4_look rfl q375 q135 q374 qs1 q372 (Nat.le_of_ble_eq_true rfl) (Nat.le_of_ble_eq_true rfl) (Nat.le_of_ble_eq_true rfl) dX4_next_74 (st2 := [iV v75]) rfl) ?_
    clear he76
    refine im (go_bipush (pc := 77) (Y := YX4_next) (v := 97) dX4_next_77 rfl) ?_
    refine im (go_bipush (pc := 79) (Y := YX4_next) (v := 122) dX4_next_79 rfl) ?_
    refine bpg (fun v77 he78 => ?_)
    refine im (go_callSN (pc := 81) (Y := YX4_next) (Yc := YX1_in) (y := yX1_in) (n := 3) (host := "ThirdWitness") [iV v75, iV 97, iV 122] [] rfl (mX1_in s72 he78) YOK_X1_in rfl q284 q129 q283 (by decide +kernel) (Nat.le_of_ble_eq_true rfl) (Nat.le_of_ble_eq_true rfl) (Nat.le_of_ble_eq_true rfl) dX4_next_81 (st2 := [iV v77]) rfl) ?_
    clear he78
    refine flp2 (go_if_eq (pc := 84) (Y := YX4_next) 121 dX4_next_84 (by decide)) ?_ ?_
    · refine e1 (fun q0 => ?_)
      subst q0
      exact go_sub [0, 1, 2] rfl hx
    · refine im (go_aload_n (pc := 87) (Y := YX4_next) 0 dX4_next_87 rfl rfl) ?_
      refine flp (go_gI (pc := 88) (Y := YX4_next) fF48 (by decide) q299 (Or.inl rfl) dX4_next_88) (fun v79 => ?_)
      refine im (go_iload_n (pc := 91) (Y := YX4_next) 1 dX4_next_91 rfl rfl) ?_
      refine im (go_isub (pc := 92) (Y := YX4_next) dX4_next_92) ?_
      refine im (go_bipush (pc := 93) (Y := YX4_next) (v := 8) dX4_next_93 rfl) ?_
      refine bpg (fun s80 he92 h93 => ?_)
      have hj108 : Go G YX4_next s0 sE rE 108 [(0, rV (some this)), (1, iV i1), (2, rV i2)] [] s80 := by
        clear he92
        revert h93
        refine im (go_aload_n (pc := 108) (Y := YX4_next) 0 dX4_next_108 rfl rfl) ?_
        refine im (go_dup (pc := 109) (Y := YX4_next) dX4_next_109 rfl) ?_
        refine flp (go_gI (pc := 110) (Y := YX4_next) fF48 (by decide) q299 (Or.inl rfl) dX4_next_110) (fun v81 => ?_)
        refine im (go_iconst (pc := 113) (Y := YX4_next) (v := 1) dX4_next_113 rfl) ?_
        refine im (go_iadd (pc := 114) (Y := YX4_next) dX4_next_114) ?_
        refine flp (go_pI (pc := 115) (Y := YX4_next) fF48 (by decide) q299 (Or.inl rfl) (Or.inl rfl) rfl rfl rfl dX4_next_115) (fun s82 => ?_)
        refine im (go_goto (pc := 118) (Y := YX4_next) 73 dX4_next_118 (by decide)) ?_
        exact fun hq => go_sub [0, 1, 2] rfl (ih _ _ hq hx)
      clear h93
      revert he92
      refine flp2 (go_icmp_ge (pc := 95) (Y := YX4_next) 108 dX4_next_95 (by decide)) ?_ ?_
      · refine e1 (fun q0 => ?_)
        subst q0
        exact go_sub [0, 1, 2] rfl hj108
      · refine im (go_aload_n (pc := 98) (Y := YX4_next) 2 dX4_next_98 rfl rfl) ?_
        refine im (go_aload_n (pc := 99) (Y := YX4_next) 0 dX4_next_99 rfl rfl) ?_
        refine kdg (fun k83 => ?_)
        refine bpg (fun v84 he85 => ?_)
        refine im (go_callV (pc := 100) (Y := YX4_next) (Yc := YX4_look) (y := yX4_look) (n := 0) (c0 := 4) (q := (RX4, TX4, 3)) this [] [rV i2] rfl rfl k83 (mX4_look s72 he85) YOK_X4_look rfl q375 q135 q374 qs1 q372 (Nat.le_of_ble_eq_true rfl) (Nat.le_of_ble_eq_true rfl) (Nat.le_of_ble_eq_true rfl) dX4_next_100 (st2 := [iV v84, rV i2]) rfl) ?_
        clear he85
        refine im (go_i2c (pc := 103) (Y := YX4_next) dX4_next_103) ?_
        refine ivg (fun w86 r87 k88 => ?_)
        refine bdg (fun s89 v90 he91 => ?_)
        refine im (go_callV (pc := 104) (Y := YX4_next) (Yc := YJ4_append) (y := yJ4_append) (n := 1) (c0 := 7) (q := (RJ4, TJ4, 4)) w86 [iV (((Int32.toUInt32 v84) % 65536).toInt32)] [] (by rw [r87]; rfl) rfl k88 (mJ4_append s72 he91) YOK_J4_append rfl q435 q139 q433 q434 q432 (Nat.le_of_ble_eq_true rfl) (Nat.le_of_ble_eq_true rfl) (Nat.le_of_ble_eq_true rfl) dX4_next_104 (st2 := [rV v90]) rfl) ?_
        clear he91
        refine im (go_pop (pc := 107) (Y := YX4_next) dX4_next_107 rfl) ?_
        refine e1 (fun q0 => ?_)
        subst q0
        exact go_sub [0, 1, 2] rfl hj108
theorem mX4_next {G : gG} (s0 : St) {this : Nat} {sE : St} {vE : Option Nat} (h : sX4_next s0 this = some (sE, vE)) : Mt G YX4_next yX4_next [rV (some this)] s0 (some (rV vE)) sE := by
  refine go_start (ls0 := [(0, rV (some this))]) (by decide +kernel) rfl (fun h => by cases h) (Nat.le_of_ble_eq_true rfl) rfl ?_
  revert h
  unfold sX4_next
  refine bpg (fun s8 he109 h110 => ?_)
  refine go_sub [0] rfl (sX4_next_L0_go this FU _ _ he109 ?_)
  clear he109
  revert h110
  refine im (go_aload_n (pc := 22) (Y := YX4_next) 0 dX4_next_22 rfl rfl) ?_
  refine flp (go_gI (pc := 23) (Y := YX4_next) fF48 (by decide) q299 (Or.inl rfl) dX4_next_23) (fun v9 => ?_)
  refine im (go_istore_n (pc := 26) (Y := YX4_next) (ls2 := [(1, iV v9), (0, rV (some this))]) dX4_next_26 rfl (Nat.le_of_ble_eq_true rfl) rfl) ?_
  refine im (go_aload_n (pc := 27) (Y := YX4_next) 1 dX4_next_27 rfl rfl) ?_
  refine flp (go_gI (pc := 28) (Y := YX4_next) fF48 (by decide) q299 (Or.inl rfl) dX4_next_28) (fun v10 => ?_)
  refine im (go_aload_n (pc := 31) (Y := YX4_next) 1 dX4_next_31 rfl rfl) ?_
  refine flp (go_gI (pc := 32) (Y := YX4_next) fF47 (by decide) q298 (Or.inl rfl) dX4_next_32) (fun v11 => ?_)
  refine flp2 (go_icmp_ne (pc := 35) (Y := YX4_next) 51 dX4_next_35 (by decide)) ?_ ?_
  · refine flp (go_nwO (pc := 38) (Y := YX4_next) (c0 := 6) (q := (RX6, TX6, 4)) rfl rfl q376 q377 q137 dX4_next_38) (fun s12 a13 => ?_)
    refine im (go_dup (pc := 41) (Y := YX4_next) dX4_next_41 rfl) ?_
    refine im (go_iconst (pc := 42) (Y := YX4_next) (v := 1) dX4_next_42 rfl) ?_
    refine im (go_iload_n (pc := 43) (Y := YX4_next) 0 dX4_next_43 rfl rfl) ?_
    refine im (go_iconst (pc := 44) (Y := YX4_next) (v := 0) dX4_next_44 rfl) ?_
    refine im (go_ldcS (pc := 45) (Y := YX4_next) (idx := 28) (i := 0) (tx := "") (by decide +kernel) dX4_next_45) ?_
    refine bpg (fun s14 he15 => ?_)
    refine im (go_callI (pc := 47) (Y := YX4_next) (Yc := YX6_init) (y := yX6_init) (n := 4) a13 [iV 1, iV v9, iV 0, rV (s12.ks 0)] [rV (some a13)] rfl (mX6_init s12 he15) YOK_X6_init rfl rfl q381 rfl q137 q380 q379 (Nat.le_of_ble_eq_true rfl) (Nat.le_of_ble_eq_true rfl) (Nat.le_of_ble_eq_true rfl) dX4_next_47 (st2 := [rV (some a13)]) rfl) ?_
    clear he15
    refine e2 (fun q0 q1 => ?_)
    subst q0
    subst q1
    exact go_aret (pc := 50) (Y := YX4_next) rfl (Or.inl ⟨_, rfl⟩) dX4_next_50
  · refine im (go_aload_n (pc := 51) (Y := YX4_next) 1 dX4_next_51 rfl rfl) ?_
    refine kdg (fun k16 => ?_)
    refine bpg (fun v17 he18 => ?_)
    refine im (go_callV (pc := 52) (Y := YX4_next) (Yc := YX4_look) (y := yX4_look) (n := 0) (c0 := 4) (q := (RX4, TX4, 3)) this [] [] rfl rfl k16 (mX4_look s8 he18) YOK_X4_look rfl q375 q135 q374 qs1 q372 (Nat.le_of_ble_eq_true rfl) (Nat.le_of_ble_eq_true rfl) (Nat.le_of_ble_eq_true rfl) dX4_next_52 (st2 := [iV v17]) rfl) ?_
    clear he18
    refine im (go_bipush (pc := 55) (Y := YX4_next) (v := 97) dX4_next_55 rfl) ?_
    refine im (go_bipush (pc := 57) (Y := YX4_next) (v := 122) dX4_next_57 rfl) ?_
    refine bpg (fun v19 he20 => ?_)
    refine im (go_callSN (pc := 59) (Y := YX4_next) (Yc := YX1_in) (y := yX1_in) (n := 3) (host := "ThirdWitness") [iV v17, iV 97, iV 122] [] rfl (mX1_in s8 he20) YOK_X1_in rfl q284 q129 q283 (by decide +kernel) (Nat.le_of_ble_eq_true rfl) (Nat.le_of_ble_eq_true rfl) (Nat.le_of_ble_eq_true rfl) dX4_next_59 (st2 := [iV v19]) rfl) ?_
    clear he20
    refine flp2 (go_if_eq (pc := 62) (Y := YX4_next) 151 dX4_next_62 (by decide)) ?_ ?_
    · refine im (go_aload_n (pc := 151) (Y := YX4_next) 1 dX4_next_151 rfl rfl) ?_
      refine kdg (fun k21 => ?_)
      refine bpg (fun v22 he23 => ?_)
      refine im (go_callV (pc := 152) (Y := YX4_next) (Yc := YX4_look) (y := yX4_look) (n := 0) (c0 := 4) (q := (RX4, TX4, 3)) this [] [] rfl rfl k21 (mX4_look s8 he23) YOK_X4_look rfl q375 q135 q374 qs1 q372 (Nat.le_of_ble_eq_true rfl) (Nat.le_of_ble_eq_true rfl) (Nat.le_of_ble_eq_true rfl) dX4_next_152 (st2 := [iV v22]) rfl) ?_
      clear he23
      refine im (go_bipush (pc := 155) (Y := YX4_next) (v := 48) dX4_next_155 rfl) ?_
      refine im (go_bipush (pc := 157) (Y := YX4_next) (v := 57) dX4_next_157 rfl) ?_
      refine bpg (fun v24 he25 => ?_)
      refine im (go_callSN (pc := 159) (Y := YX4_next) (Yc := YX1_in) (y := yX1_in) (n := 3) (host := "ThirdWitness") [iV v22, iV 48, iV 57] [] rfl (mX1_in s8 he25) YOK_X1_in rfl q284 q129 q283 (by decide +kernel) (Nat.le_of_ble_eq_true rfl) (Nat.le_of_ble_eq_true rfl) (Nat.le_of_ble_eq_true rfl) dX4_next_159 (st2 := [iV v24]) rfl) ?_
      clear he25
      refine flp2 (go_if_eq (pc := 162) (Y := YX4_next) 244 dX4_next_162 (by decide)) ?_ ?_
      · refine im (go_aload_n (pc := 244) (Y := YX4_next) 1 dX4_next_244 rfl rfl) ?_
        refine kdg (fun k26 => ?_)
        refine bpg (fun v27 he28 => ?_)
        refine im (go_callV (pc := 245) (Y := YX4_next) (Yc := YX4_look) (y := yX4_look) (n := 0) (c0 := 4) (q := (RX4, TX4, 3)) this [] [] rfl rfl k26 (mX4_look s8 he28) YOK_X4_look rfl q375 q135 q374 qs1 q372 (Nat.le_of_ble_eq_true rfl) (Nat.le_of_ble_eq_true rfl) (Nat.le_of_ble_eq_true rfl) dX4_next_245 (st2 := [iV v27]) rfl) ?_
        clear he28
        refine im (go_istore_n (pc := 248) (Y := YX4_next) (ls2 := [(2, iV v27), (1, iV v9), (0, rV (some this))]) dX4_next_248 rfl (Nat.le_of_ble_eq_true rfl) rfl) ?_
        refine im (go_aload_n (pc := 249) (Y := YX4_next) 2 dX4_next_249 rfl rfl) ?_
        refine im (go_dup (pc := 250) (Y := YX4_next) dX4_next_250 rfl) ?_
        refine flp (go_gI (pc := 251) (Y := YX4_next) fF48 (by decide) q299 (Or.inl rfl) dX4_next_251) (fun v29 => ?_)
        refine im (go_iconst (pc := 254) (Y := YX4_next) (v := 1) dX4_next_254 rfl) ?_
        refine im (go_iadd (pc := 255) (Y := YX4_next) dX4_next_255) ?_
        refine flp (go_pI (pc := 256) (Y := YX4_next) fF48 (by decide) q299 (Or.inl rfl) (Or.inl rfl) rfl rfl rfl dX4_next_256) (fun s30 => ?_)
        refine flp (go_nwO (pc := 259) (Y := YX4_next) (c0 := 6) (q := (RX6, TX6, 4)) rfl rfl q376 q377 q137 dX4_next_259) (fun s31 a32 => ?_)
        refine im (go_dup (pc := 262) (Y := YX4_next) dX4_next_262 rfl) ?_
        refine im (go_iload_n (pc := 263) (Y := YX4_next) 0 dX4_next_263 rfl rfl) ?_
        refine im (go_bipush (pc := 264) (Y := YX4_next) (v := 59) dX4_next_264 rfl) ?_
        refine bpg (fun v33 he36 h37 => ?_)
        have hj274 : Go G YX4_next s0 sE (some (rV vE)) 274 [(1, iV v9), (2, iV v27)] [iV v33, rV (some a32), rV (some a32)] s31 := by
          clear he36
          revert h37
          refine im (go_iload_n (pc := 274) (Y := YX4_next) 0 dX4_next_274 rfl rfl) ?_
          refine im (go_iload_n (pc := 275) (Y := YX4_next) 1 dX4_next_275 rfl rfl) ?_
          refine im (go_ldcS (pc := 276) (Y := YX4_next) (idx := 28) (i := 0) (tx := "") (by decide +kernel) dX4_next_276) ?_
          refine bpg (fun s34 he35 => ?_)
          refine im (go_callI (pc := 278) (Y := YX4_next) (Yc := YX6_init) (y := yX6_init) (n := 4) a32 [iV v33, iV v9, iV v27, rV (s31.ks 0)] [rV (some a32)] rfl (mX6_init s31 he35) YOK_X6_init rfl rfl q381 rfl q137 q380 q379 (Nat.le_of_ble_eq_true rfl) (Nat.le_of_ble_eq_true rfl) (Nat.le_of_ble_eq_true rfl) dX4_next_278 (st2 := [rV (some a32)]) rfl) ?_
          clear he35
          refine e2 (fun q0 q1 => ?_)
          subst q0
          subst q1
          exact go_aret (pc := 281) (Y := YX4_next) rfl (Or.inl ⟨_, rfl⟩) dX4_next_281
        clear h37
        revert he36
        refine flp2 (go_icmp_ne (pc := 266) (Y := YX4_next) 273 dX4_next_266 (by decide)) ?_ ?_
        · refine im (go_iconst (pc := 269) (Y := YX4_next) (v := 4) dX4_next_269 rfl) ?_
          refine im (go_goto (pc := 270) (Y := YX4_next) 274 dX4_next_270 (by decide)) ?_
          refine e1 (fun q0 => ?_)
          subst q0
          exact go_sub [1, 0] rfl hj274
        · refine im (go_iconst (pc := 273) (Y := YX4_next) (v := 0) dX4_next_273 rfl) ?_
          refine e1 (fun q0 => ?_)
          subst q0
          exact go_sub [1, 0] rfl hj274
      · refine im (go_iconst (pc := 165) (Y := YX4_next) (v := 0) dX4_next_165 rfl) ?_
        refine im (go_istore_n (pc := 166) (Y := YX4_next) (ls2 := [(2, iV 0), (1, iV v9), (0, rV (some this))]) dX4_next_166 rfl (Nat.le_of_ble_eq_true rfl) rfl) ?_
        refine b2g (fun s56 v57 he66 h67 => ?_)
        refine go_sub [2, 1, 0] rfl (sX4_next_L167_go this v9 FU _ _ _ _ he66 ?_)
        clear he66
        revert h67
        refine flp (go_nwO (pc := 217) (Y := YX4_next) (c0 := 6) (q := (RX6, TX6, 4)) rfl rfl q376 q377 q137 dX4_next_217) (fun s58 a59 => ?_)
        refine im (go_dup (pc := 220) (Y := YX4_next) dX4_next_220 rfl) ?_
        refine im (go_aload_n (pc := 221) (Y := YX4_next) 0 dX4_next_221 rfl rfl) ?_
        refine flp (go_gI (pc := 222) (Y := YX4_next) fF48 (by decide) q299 (Or.inl rfl) dX4_next_222) (fun v60 => ?_)
        refine im (go_iload_n (pc := 225) (Y := YX4_next) 1 dX4_next_225 rfl rfl) ?_
        refine im (go_isub (pc := 226) (Y := YX4_next) dX4_next_226) ?_
        refine im (go_iconst (pc := 227) (Y := YX4_next) (v := 3) dX4_next_227 rfl) ?_
        refine bpg (fun v61 he64 h65 => ?_)
        have hj236 : Go G YX4_next s0 sE (some (rV vE)) 236 [(1, iV v9), (2, iV v57)] [iV v61, rV (some a59), rV (some a59)] s58 := by
          clear he64
          revert h65
          refine im (go_iload_n (pc := 236) (Y := YX4_next) 0 dX4_next_236 rfl rfl) ?_
          refine im (go_iload_n (pc := 237) (Y := YX4_next) 1 dX4_next_237 rfl rfl) ?_
          refine im (go_ldcS (pc := 238) (Y := YX4_next) (idx := 28) (i := 0) (tx := "") (by decide +kernel) dX4_next_238) ?_
          refine bpg (fun s62 he63 => ?_)
          refine im (go_callI (pc := 240) (Y := YX4_next) (Yc := YX6_init) (y := yX6_init) (n := 4) a59 [iV v61, iV v9, iV v57, rV (s58.ks 0)] [rV (some a59)] rfl (mX6_init s58 he63) YOK_X6_init rfl rfl q381 rfl q137 q380 q379 (Nat.le_of_ble_eq_true rfl) (Nat.le_of_ble_eq_true rfl) (Nat.le_of_ble_eq_true rfl) dX4_next_240 (st2 := [rV (some a59)]) rfl) ?_
          clear he63
          refine e2 (fun q0 q1 => ?_)
          subst q0
          subst q1
          exact go_aret (pc := 243) (Y := YX4_next) rfl (Or.inl ⟨_, rfl⟩) dX4_next_243
        clear h65
        revert he64
        refine flp2 (go_icmp_le (pc := 228) (Y := YX4_next) 235 dX4_next_228 (by decide)) ?_ ?_
        · refine im (go_iconst (pc := 235) (Y := YX4_next) (v := 3) dX4_next_235 rfl) ?_
          refine e1 (fun q0 => ?_)
          subst q0
          exact go_sub [1, 2] rfl hj236
        · refine im (go_iconst (pc := 231) (Y := YX4_next) (v := 0) dX4_next_231 rfl) ?_
          refine im (go_goto (pc := 232) (Y := YX4_next) 236 dX4_next_232 (by decide)) ?_
          refine e1 (fun q0 => ?_)
          subst q0
          exact go_sub [1, 2] rfl hj236
    · refine flp (go_nwO (pc := 65) (Y := YX4_next) (c0 := 7) (q := (RJ4, TJ4, 4)) rfl rfl q401 q402 q139 dX4_next_65) (fun s68 a69 => ?_)
      refine im (go_dup (pc := 68) (Y := YX4_next) dX4_next_68 rfl) ?_
      refine bpg (fun s70 he71 => ?_)
      refine im (go_callI (pc := 69) (Y := YX4_next) (Yc := YJ4_init) (y := yJ4_init) (n := 0) a69 [] [rV (some a69)] rfl (mJ4_init s68 he71) YOK_J4_init rfl rfl q405 rfl q139 q404 q403 (Nat.le_of_ble_eq_true rfl) (Nat.le_of_ble_eq_true rfl) (Nat.le_of_ble_eq_true rfl) dX4_next_69 (st2 := [rV (some a69)]) rfl) ?_
      clear he71
      refine im (go_astore_n (pc := 72) (Y := YX4_next) (ls2 := [(2, rV (some a69)), (1, iV v9), (0, rV (some this))]) dX4_next_72 rfl (Nat.le_of_ble_eq_true rfl) rfl) ?_
      refine bpg (fun s94 he107 h108 => ?_)
      refine go_sub [2, 1, 0] rfl (sX4_next_L73_go this v9 (some a69) FU _ _ he107 ?_)
      clear he107
      revert h108
      refine flp (go_nwO (pc := 121) (Y := YX4_next) (c0 := 6) (q := (RX6, TX6, 4)) rfl rfl q376 q377 q137 dX4_next_121) (fun s95 a96 => ?_)
      refine im (go_dup (pc := 124) (Y := YX4_next) dX4_next_124 rfl) ?_
      refine im (go_aload_n (pc := 125) (Y := YX4_next) 0 dX4_next_125 rfl rfl) ?_
      refine flp (go_gI (pc := 126) (Y := YX4_next) fF48 (by decide) q299 (Or.inl rfl) dX4_next_126) (fun v97 => ?_)
      refine im (go_iload_n (pc := 129) (Y := YX4_next) 1 dX4_next_129 rfl rfl) ?_
      refine im (go_isub (pc := 130) (Y := YX4_next) dX4_next_130) ?_
      refine im (go_bipush (pc := 131) (Y := YX4_next) (v := 8) dX4_next_131 rfl) ?_
      refine bpg (fun v98 he105 h106 => ?_)
      have hj141 : Go G YX4_next s0 sE (some (rV vE)) 141 [(1, iV v9), (2, rV (some a69))] [iV v98, rV (some a96), rV (some a96)] s95 := by
        clear he105
        revert h106
        refine im (go_iload_n (pc := 141) (Y := YX4_next) 0 dX4_next_141 rfl rfl) ?_
        refine im (go_iconst (pc := 142) (Y := YX4_next) (v := 0) dX4_next_142 rfl) ?_
        refine im (go_aload_n (pc := 143) (Y := YX4_next) 1 dX4_next_143 rfl rfl) ?_
        refine kdg (fun k99 => ?_)
        refine bdg (fun s100 v101 he102 => ?_)
        refine im (go_callV (pc := 144) (Y := YX4_next) (Yc := YJ4_toString) (y := yJ4_toString) (n := 0) (c0 := 7) (q := (RJ4, TJ4, 4)) a69 [] [iV 0, iV v9, iV v98, rV (some a96), rV (some a96)] rfl rfl k99 (mJ4_toString s95 he102) YOK_J4_toString rfl q530 q139 q528 q529 q527 (Nat.le_of_ble_eq_true rfl) (Nat.le_of_ble_eq_true rfl) (Nat.le_of_ble_eq_true rfl) dX4_next_144 (st2 := [rV v101, iV 0, iV v9, iV v98, rV (some a96), rV (some a96)]) rfl) ?_
        clear he102
        refine bpg (fun s103 he104 => ?_)
        refine im (go_callI (pc := 147) (Y := YX4_next) (Yc := YX6_init) (y := yX6_init) (n := 4) a96 [iV v98, iV v9, iV 0, rV v101] [rV (some a96)] rfl (mX6_init s100 he104) YOK_X6_init rfl rfl q381 rfl q137 q380 q379 (Nat.le_of_ble_eq_true rfl) (Nat.le_of_ble_eq_true rfl) (Nat.le_of_ble_eq_true rfl) dX4_next_147 (st2 := [rV (some a96)]) rfl) ?_
        clear he104
        refine e2 (fun q0 q1 => ?_)
        subst q0
        subst q1
        exact go_aret (pc := 150) (Y := YX4_next) rfl (Or.inl ⟨_, rfl⟩) dX4_next_150
      clear h106
      revert he105
      refine flp2 (go_icmp_le (pc := 133) (Y := YX4_next) 140 dX4_next_133 (by decide)) ?_ ?_
      · refine im (go_iconst (pc := 140) (Y := YX4_next) (v := 2) dX4_next_140 rfl) ?_
        refine e1 (fun q0 => ?_)
        subst q0
        exact go_sub [1, 2] rfl hj141
      · refine im (go_iconst (pc := 136) (Y := YX4_next) (v := 0) dX4_next_136 rfl) ?_
        refine im (go_goto (pc := 137) (Y := YX4_next) 141 dX4_next_137 (by decide)) ?_
        refine e1 (fun q0 => ?_)
        subst q0
        exact go_sub [1, 2] rfl hj141
abbrev YX3_init : mY := (RX3, cX3_init, 2, (Option.none : Option Jvm.ClassFile.FieldType), 7, 159, true)
theorem YOK_X3_init : YOK yX3_init 1 := ⟨⟨by decide +kernel, by decide +kernel⟩, by decide +kernel⟩
theorem mX3_init {G : gG} (s0 : St) {this : Nat} {p0 : Option Nat} {sE : St} (h : sX3_init s0 this p0 = some sE) : Mt G YX3_init yX3_init [rV (some this), rV p0] s0 none sE := by
  refine go_start (ls0 := [(0, rV (some this)), (1, rV p0)]) (by decide +kernel) rfl (fun _ => rfl) (Nat.le_of_ble_eq_true rfl) rfl ?_
  revert h
  unfold sX3_init
  refine im (go_aload_n (pc := 0) (Y := YX3_init) 0 dX3_init_0 rfl rfl) ?_
  refine im (go_objI (pc := 1) (Y := YX3_init) q310 (Nat.le_of_ble_eq_true rfl) (Nat.le_of_ble_eq_true rfl) q167 q168 dX3_init_1) ?_
  refine im (go_aload_n (pc := 4) (Y := YX3_init) 0 dX3_init_4 rfl rfl) ?_
  refine flp (go_nwO (pc := 5) (Y := YX3_init) (c0 := 5) (q := (RX5, TX5, 10)) rfl rfl q311 q312 q136 dX3_init_5) (fun s1 a2 => ?_)
  refine im (go_dup (pc := 8) (Y := YX3_init) dX3_init_8 rfl) ?_
  refine bpg (fun s3 he4 => ?_)
  refine im (go_callIN (pc := 9) (Y := YX3_init) (Yc := YX5_init) (y := yX5_init) (n := 0) (host := "ThirdWitness") a2 [] [rV (some a2), rV (some this)] rfl (mX5_init s1 he4) YOK_X5_init rfl rfl q315 rfl q136 q314 (by decide +kernel) (Nat.le_of_ble_eq_true rfl) (Nat.le_of_ble_eq_true rfl) (Nat.le_of_ble_eq_true rfl) dX3_init_9 (st2 := [rV (some a2), rV (some this)]) rfl) ?_
  clear he4
  refine flp (go_pR (pc := 12) (Y := YX3_init) fF1021 (by decide) q591 (Or.inl rfl) (Or.inr ⟨rfl, rfl⟩) rfl (Or.inl ⟨_, rfl⟩) dX3_init_12) (fun s5 => ?_)
  refine im (go_aload_n (pc := 15) (Y := YX3_init) 0 dX3_init_15 rfl rfl) ?_
  refine im (go_aload_n (pc := 16) (Y := YX3_init) 1 dX3_init_16 rfl rfl) ?_
  refine flp (go_pR (pc := 17) (Y := YX3_init) fF1020 (by decide) q590 (Or.inl rfl) (Or.inr ⟨rfl, rfl⟩) rfl (Or.inl ⟨_, rfl⟩) dX3_init_17) (fun s6 => ?_)
  refine im (go_aload_n (pc := 20) (Y := YX3_init) 0 dX3_init_20 rfl rfl) ?_
  refine im (go_aload_n (pc := 21) (Y := YX3_init) 1 dX3_init_21 rfl rfl) ?_
  refine ivg (fun w7 r8 k9 => ?_)
  refine bdg (fun s10 v11 he12 => ?_)
  refine im (go_callV (pc := 22) (Y := YX3_init) (Yc := YX4_next) (y := yX4_next) (n := 0) (c0 := 4) (q := (RX4, TX4, 3)) w7 [] [rV (some this)] (by rw [r8]; rfl) rfl k9 (mX4_next s6 he12) YOK_X4_next rfl q371 q135 q369 q370 q368 (Nat.le_of_ble_eq_true rfl) (Nat.le_of_ble_eq_true rfl) (Nat.le_of_ble_eq_true rfl) dX3_init_22 (st2 := [rV v11, rV (some this)]) rfl) ?_
  clear he12
  refine flp (go_pR (pc := 25) (Y := YX3_init) fF1022 (by decide) q592 (Or.inl rfl) (Or.inl rfl) rfl (Or.inl ⟨_, rfl⟩) dX3_init_25) (fun s13 => ?_)
  refine e1 (fun q0 => ?_)
  subst q0
  exact go_vret (pc := 28) (Y := YX3_init) rfl dX3_init_28
abbrev YX3_isOver : mY := (RX3, cX3_isOver, 1, (Option.some .boolean), 0, 0, false)
theorem YOK_X3_isOver : YOK yX3_isOver 0 := ⟨⟨by decide +kernel, by decide +kernel⟩, by decide +kernel⟩
theorem mX3_isOver {G : gG} (s0 : St) {this : Nat} {vE : Int32} (h : sX3_isOver s0 this = some vE) : Mt G YX3_isOver yX3_isOver [rV (some this)] s0 (some (iV vE)) s0 := by
  refine go_start (ls0 := [(0, rV (some this))]) (by decide +kernel) rfl (fun h => by cases h) (Nat.le_of_ble_eq_true rfl) rfl ?_
  revert h
  unfold sX3_isOver
  refine im (go_aload_n (pc := 0) (Y := YX3_isOver) 0 dX3_isOver_0 rfl rfl) ?_
  refine flp (go_gI (pc := 1) (Y := YX3_isOver) fF45 (by decide) q593 (Or.inl rfl) dX3_isOver_1) (fun v1 => ?_)
  refine flp2 (go_if_le (pc := 4) (Y := YX3_isOver) 11 dX3_isOver_4 (by decide)) ?_ ?_
  · refine im (go_iconst (pc := 11) (Y := YX3_isOver) (v := 0) dX3_isOver_11 rfl) ?_
    refine e1 (fun q0 => ?_)
    subst q0
    exact go_zret (pc := 12) (Y := YX3_isOver) rfl rfl dX3_isOver_12
  · refine im (go_iconst (pc := 7) (Y := YX3_isOver) (v := 1) dX3_isOver_7 rfl) ?_
    refine im (go_goto (pc := 8) (Y := YX3_isOver) 12 dX3_isOver_8 (by decide)) ?_
    refine e1 (fun q0 => ?_)
    subst q0
    exact go_zret (pc := 12) (Y := YX3_isOver) rfl rfl dX3_isOver_12
abbrev YX3_wrong : mY := (RX3, cX3_wrong, 2, (Option.none : Option Jvm.ClassFile.FieldType), 1, 20, false)
theorem YOK_X3_wrong : YOK yX3_wrong 1 := ⟨⟨by decide +kernel, by decide +kernel⟩, by decide +kernel⟩
theorem mX3_wrong {G : gG} (s0 : St) {this : Nat} {p0 : Int32} {sE : St} (h : sX3_wrong s0 this p0 = some sE) : Mt G YX3_wrong yX3_wrong [rV (some this), iV p0] s0 none sE := by
  refine go_start (ls0 := [(0, rV (some this)), (1, iV p0)]) (by decide +kernel) rfl (fun h => by cases h) (Nat.le_of_ble_eq_true rfl) rfl ?_
  revert h
  unfold sX3_wrong
  refine im (go_aload_n (pc := 0) (Y := YX3_wrong) 0 dX3_wrong_0 rfl rfl) ?_
  refine kdg (fun k1 => ?_)
  refine bpg (fun v2 he3 => ?_)
  refine im (go_callV (pc := 1) (Y := YX3_wrong) (Yc := YX3_isOver) (y := yX3_isOver) (n := 0) (c0 := 3) (q := (RX3, TX3, 5)) this [] [] rfl rfl k1 (mX3_isOver s0 he3) YOK_X3_isOver rfl q698 q134 q697 qs5 q695 (Nat.le_of_ble_eq_true rfl) (Nat.le_of_ble_eq_true rfl) (Nat.le_of_ble_eq_true rfl) dX3_wrong_1 (st2 := [iV v2]) rfl) ?_
  clear he3
  refine flp2 (go_if_eq (pc := 4) (Y := YX3_wrong) 8 dX3_wrong_4 (by decide)) ?_ ?_
  · refine im (go_aload_n (pc := 8) (Y := YX3_wrong) 0 dX3_wrong_8 rfl rfl) ?_
    refine im (go_iload_n (pc := 9) (Y := YX3_wrong) 1 dX3_wrong_9 rfl rfl) ?_
    refine flp (go_pI (pc := 10) (Y := YX3_wrong) fF45 (by decide) q593 (Or.inl rfl) (Or.inl rfl) rfl rfl rfl dX3_wrong_10) (fun s4 => ?_)
    refine im (go_aload_n (pc := 13) (Y := YX3_wrong) 0 dX3_wrong_13 rfl rfl) ?_
    refine im (go_aload_n (pc := 14) (Y := YX3_wrong) 0 dX3_wrong_14 rfl rfl) ?_
    refine flp (go_gR (pc := 15) (Y := YX3_wrong) fF1022 (by decide) q592 (Or.inl rfl) dX3_wrong_15) (fun v5 => ?_)
    refine flp (go_gI (pc := 18) (Y := YX3_wrong) fF55 (by decide) q386 (Or.inl rfl) dX3_wrong_18) (fun v6 => ?_)
    refine flp (go_pI (pc := 21) (Y := YX3_wrong) fF46 (by decide) q595 (Or.inl rfl) (Or.inl rfl) rfl rfl rfl dX3_wrong_21) (fun s7 => ?_)
    refine e1 (fun q0 => ?_)
    subst q0
    exact go_vret (pc := 24) (Y := YX3_wrong) rfl dX3_wrong_24
  · refine e1 (fun q0 => ?_)
    subst q0
    exact go_vret (pc := 7) (Y := YX3_wrong) rfl dX3_wrong_7
abbrev YX3_on : mY := (RX3, cX3_on, 1, (Option.none : Option Jvm.ClassFile.FieldType), 7, 159, false)
theorem YOK_X3_on : YOK yX3_on 0 := ⟨⟨by decide +kernel, by decide +kernel⟩, by decide +kernel⟩
theorem mX3_on {G : gG} (s0 : St) {this : Nat} {sE : St} (h : sX3_on s0 this = some sE) : Mt G YX3_on yX3_on [rV (some this)] s0 none sE := by
  refine go_start (ls0 := [(0, rV (some this))]) (by decide +kernel) rfl (fun h => by cases h) (Nat.le_of_ble_eq_true rfl) rfl ?_
  revert h
  unfold sX3_on
  refine im (go_aload_n (pc := 0) (Y := YX3_on) 0 dX3_on_0 rfl rfl) ?_
  refine kdg (fun k1 => ?_)
  refine bpg (fun v2 he3 => ?_)
  refine im (go_callV (pc := 1) (Y := YX3_on) (Yc := YX3_isOver) (y := yX3_isOver) (n := 0) (c0 := 3) (q := (RX3, TX3, 5)) this [] [] rfl rfl k1 (mX3_isOver s0 he3) YOK_X3_isOver rfl q698 q134 q697 qs5 q695 (Nat.le_of_ble_eq_true rfl) (Nat.le_of_ble_eq_true rfl) (Nat.le_of_ble_eq_true rfl) dX3_on_1 (st2 := [iV v2]) rfl) ?_
  clear he3
  refine flp2 (go_if_ne (pc := 4) (Y := YX3_on) 29 dX3_on_4 (by decide)) ?_ ?_
  · refine im (go_aload_n (pc := 7) (Y := YX3_on) 0 dX3_on_7 rfl rfl) ?_
    refine flp (go_gR (pc := 8) (Y := YX3_on) fF1022 (by decide) q592 (Or.inl rfl) dX3_on_8) (fun v4 => ?_)
    refine flp (go_gI (pc := 11) (Y := YX3_on) fF54 (by decide) q384 (Or.inl rfl) dX3_on_11) (fun v5 => ?_)
    refine im (go_iconst (pc := 14) (Y := YX3_on) (v := 1) dX3_on_14 rfl) ?_
    refine flp2 (go_icmp_eq (pc := 15) (Y := YX3_on) 29 dX3_on_15 (by decide)) ?_ ?_
    · refine e1 (fun q0 => ?_)
      subst q0
      exact go_vret (pc := 29) (Y := YX3_on) rfl dX3_on_29
    · refine im (go_aload_n (pc := 18) (Y := YX3_on) 0 dX3_on_18 rfl rfl) ?_
      refine im (go_aload_n (pc := 19) (Y := YX3_on) 0 dX3_on_19 rfl rfl) ?_
      refine flp (go_gR (pc := 20) (Y := YX3_on) fF1020 (by decide) q590 (Or.inl rfl) dX3_on_20) (fun v6 => ?_)
      refine ivg (fun w7 r8 k9 => ?_)
      refine bdg (fun s10 v11 he12 => ?_)
      refine im (go_callV (pc := 23) (Y := YX3_on) (Yc := YX4_next) (y := yX4_next) (n := 0) (c0 := 4) (q := (RX4, TX4, 3)) w7 [] [rV (some this)] (by rw [r8]; rfl) rfl k9 (mX4_next s0 he12) YOK_X4_next rfl q371 q135 q369 q370 q368 (Nat.le_of_ble_eq_true rfl) (Nat.le_of_ble_eq_true rfl) (Nat.le_of_ble_eq_true rfl) dX3_on_23 (st2 := [rV v11, rV (some this)]) rfl) ?_
      clear he12
      refine flp (go_pR (pc := 26) (Y := YX3_on) fF1022 (by decide) q592 (Or.inl rfl) (Or.inl rfl) rfl (Or.inl ⟨_, rfl⟩) dX3_on_26) (fun s13 => ?_)
      refine e1 (fun q0 => ?_)
      subst q0
      exact go_vret (pc := 29) (Y := YX3_on) rfl dX3_on_29
  · refine e1 (fun q0 => ?_)
    subst q0
    exact go_vret (pc := 29) (Y := YX3_on) rfl dX3_on_29
abbrev YX6_is : mY := (RX6, cX6_is, 2, (Option.some .boolean), 2, 44, false)
theorem YOK_X6_is : YOK yX6_is 1 := ⟨⟨by decide +kernel, by decide +kernel⟩, by decide +kernel⟩
theorem mX6_is {G : gG} (s0 : St) {this : Nat} {p0 : Option Nat} {vE : Int32} (h : sX6_is s0 this p0 = some vE) : Mt G YX6_is yX6_is [rV (some this), rV p0] s0 (some (iV vE)) s0 := by
  refine go_start (ls0 := [(0, rV (some this)), (1, rV p0)]) (by decide +kernel) rfl (fun h => by cases h) (Nat.le_of_ble_eq_true rfl) rfl ?_
  revert h
  unfold sX6_is
  refine im (go_aload_n (pc := 0) (Y := YX6_is) 0 dX6_is_0 rfl rfl) ?_
  refine flp (go_gI (pc := 1) (Y := YX6_is) fF54 (by decide) q383 (Or.inl rfl) dX6_is_1) (fun v1 => ?_)
  refine im (go_iconst (pc := 4) (Y := YX6_is) (v := 2) dX6_is_4 rfl) ?_
  refine flp2 (go_icmp_ne (pc := 5) (Y := YX6_is) 23 dX6_is_5 (by decide)) ?_ ?_
  · refine im (go_aload_n (pc := 8) (Y := YX6_is) 0 dX6_is_8 rfl rfl) ?_
    refine flp (go_gR (pc := 9) (Y := YX6_is) fF1029 (by decide) q389 (Or.inl rfl) dX6_is_9) (fun v2 => ?_)
    refine im (go_aload_n (pc := 12) (Y := YX6_is) 1 dX6_is_12 rfl rfl) ?_
    refine ivg (fun w3 r4 k5 => ?_)
    refine bpg (fun v6 he7 => ?_)
    refine im (go_callV (pc := 13) (Y := YX6_is) (Yc := YJ5_equals) (y := yJ5_equals) (n := 1) (c0 := 8) (q := (RJ5, TJ5, 4)) w3 [rV p0] [] (by rw [r4]; rfl) rfl k5 (mJ5_equals s0 he7) YOK_J5_equals rfl q674 q140 q672 q673 q716 (Nat.le_of_ble_eq_true rfl) (Nat.le_of_ble_eq_true rfl) (Nat.le_of_ble_eq_true rfl) dX6_is_13 (st2 := [iV v6]) rfl) ?_
    clear he7
    refine flp2 (go_if_eq (pc := 16) (Y := YX6_is) 23 dX6_is_16 (by decide)) ?_ ?_
    · refine im (go_iconst (pc := 23) (Y := YX6_is) (v := 0) dX6_is_23 rfl) ?_
      refine e1 (fun q0 => ?_)
      subst q0
      exact go_zret (pc := 24) (Y := YX6_is) rfl rfl dX6_is_24
    · refine im (go_iconst (pc := 19) (Y := YX6_is) (v := 1) dX6_is_19 rfl) ?_
      refine im (go_goto (pc := 20) (Y := YX6_is) 24 dX6_is_20 (by decide)) ?_
      refine e1 (fun q0 => ?_)
      subst q0
      exact go_zret (pc := 24) (Y := YX6_is) rfl rfl dX6_is_24
  · refine im (go_iconst (pc := 23) (Y := YX6_is) (v := 0) dX6_is_23 rfl) ?_
    refine e1 (fun q0 => ?_)
    subst q0
    exact go_zret (pc := 24) (Y := YX6_is) rfl rfl dX6_is_24
abbrev YX3_needs : mY := (RX3, cX3_needs, 2, (Option.none : Option Jvm.ClassFile.FieldType), 8, 179, false)
theorem YOK_X3_needs : YOK yX3_needs 1 := ⟨⟨by decide +kernel, by decide +kernel⟩, by decide +kernel⟩
theorem mX3_needs {G : gG} (s0 : St) {this : Nat} {p0 : Option Nat} {sE : St} (h : sX3_needs s0 this p0 = some sE) : Mt G YX3_needs yX3_needs [rV (some this), rV p0] s0 none sE := by
  refine go_start (ls0 := [(0, rV (some this)), (1, rV p0)]) (by decide +kernel) rfl (fun h => by cases h) (Nat.le_of_ble_eq_true rfl) rfl ?_
  revert h
  unfold sX3_needs
  refine im (go_aload_n (pc := 0) (Y := YX3_needs) 0 dX3_needs_0 rfl rfl) ?_
  refine flp (go_gR (pc := 1) (Y := YX3_needs) fF1022 (by decide) q592 (Or.inl rfl) dX3_needs_1) (fun v1 => ?_)
  refine im (go_aload_n (pc := 4) (Y := YX3_needs) 1 dX3_needs_4 rfl rfl) ?_
  refine ivg (fun w2 r3 k4 => ?_)
  refine bpg (fun v5 he6 => ?_)
  refine im (go_callV (pc := 5) (Y := YX3_needs) (Yc := YX6_is) (y := yX6_is) (n := 1) (c0 := 6) (q := (RX6, TX6, 4)) w2 [rV p0] [] (by rw [r3]; rfl) rfl k4 (mX6_is s0 he6) YOK_X6_is rfl q715 q137 q713 q714 q712 (Nat.le_of_ble_eq_true rfl) (Nat.le_of_ble_eq_true rfl) (Nat.le_of_ble_eq_true rfl) dX3_needs_5 (st2 := [iV v5]) rfl) ?_
  clear he6
  refine bpg (fun s7 he14 h15 => ?_)
  have hj16 : Go G YX3_needs s0 sE none 16 [(0, rV (some this))] [] s7 := by
    clear he14
    revert h15
    refine im (go_aload_n (pc := 16) (Y := YX3_needs) 0 dX3_needs_16 rfl rfl) ?_
    refine kdg (fun k8 => ?_)
    refine bpg (fun s9 he10 => ?_)
    refine im (go_callV (pc := 17) (Y := YX3_needs) (Yc := YX3_on) (y := yX3_on) (n := 0) (c0 := 3) (q := (RX3, TX3, 5)) this [] [] rfl rfl k8 (mX3_on s7 he10) YOK_X3_on rfl q702 q134 q701 qs6 q699 (Nat.le_of_ble_eq_true rfl) (Nat.le_of_ble_eq_true rfl) (Nat.le_of_ble_eq_true rfl) dX3_needs_17 (st2 := []) rfl) ?_
    clear he10
    refine e1 (fun q0 => ?_)
    subst q0
    exact go_vret (pc := 20) (Y := YX3_needs) rfl dX3_needs_20
  clear h15
  revert he14
  refine flp2 (go_if_ne (pc := 8) (Y := YX3_needs) 16 dX3_needs_8 (by decide)) ?_ ?_
  · refine im (go_aload_n (pc := 11) (Y := YX3_needs) 0 dX3_needs_11 rfl rfl) ?_
    refine im (go_iconst (pc := 12) (Y := YX3_needs) (v := 1) dX3_needs_12 rfl) ?_
    refine kdg (fun k11 => ?_)
    refine bpg (fun s12 he13 => ?_)
    refine im (go_callV (pc := 13) (Y := YX3_needs) (Yc := YX3_wrong) (y := yX3_wrong) (n := 1) (c0 := 3) (q := (RX3, TX3, 5)) this [iV 1] [] rfl rfl k11 (mX3_wrong s0 he13) YOK_X3_wrong rfl q694 q134 q693 qs4 q691 (Nat.le_of_ble_eq_true rfl) (Nat.le_of_ble_eq_true rfl) (Nat.le_of_ble_eq_true rfl) dX3_needs_13 (st2 := []) rfl) ?_
    clear he13
    refine e1 (fun q0 => ?_)
    subst q0
    exact go_sub [0] rfl hj16
  · refine e1 (fun q0 => ?_)
    subst q0
    exact go_sub [0] rfl hj16
abbrev YX3_wholeAt : mY := (RX3, cX3_wholeAt, 3, (Option.some .int), 2, 41, false)
theorem YOK_X3_wholeAt : YOK yX3_wholeAt 2 := ⟨⟨by decide +kernel, by decide +kernel⟩, by decide +kernel⟩
theorem mX3_wholeAt {G : gG} (s0 : St) {this : Nat} {p0 : Int32} {p1 : Int32} {sE : St} {vE : Int32} (h : sX3_wholeAt s0 this p0 p1 = some (sE, vE)) : Mt G YX3_wholeAt yX3_wholeAt [rV (some this), iV p0, iV p1] s0 (some (iV vE)) sE := by
  refine go_start (ls0 := [(0, rV (some this)), (1, iV p0), (2, iV p1)]) (by decide +kernel) rfl (fun h => by cases h) (Nat.le_of_ble_eq_true rfl) rfl ?_
  revert h
  unfold sX3_wholeAt
  refine im (go_aload_n (pc := 0) (Y := YX3_wholeAt) 0 dX3_wholeAt_0 rfl rfl) ?_
  refine flp (go_gR (pc := 1) (Y := YX3_wholeAt) fF1022 (by decide) q592 (Or.inl rfl) dX3_wholeAt_1) (fun v1 => ?_)
  refine flp (go_gI (pc := 4) (Y := YX3_wholeAt) fF54 (by decide) q384 (Or.inl rfl) dX3_wholeAt_4) (fun v2 => ?_)
  refine im (go_iconst (pc := 7) (Y := YX3_wholeAt) (v := 3) dX3_wholeAt_7 rfl) ?_
  refine bpg (fun s3 he16 h17 => ?_)
  have hj39 : Go G YX3_wholeAt s0 sE (some (iV vE)) 39 [(0, rV (some this))] [] s3 := by
    clear he16
    revert h17
    refine im (go_aload_n (pc := 39) (Y := YX3_wholeAt) 0 dX3_wholeAt_39 rfl rfl) ?_
    refine flp (go_gR (pc := 40) (Y := YX3_wholeAt) fF1022 (by decide) q592 (Or.inl rfl) dX3_wholeAt_40) (fun v4 => ?_)
    refine flp (go_gI (pc := 43) (Y := YX3_wholeAt) fF56 (by decide) q388 (Or.inl rfl) dX3_wholeAt_43) (fun v5 => ?_)
    refine e2 (fun q0 q1 => ?_)
    subst q0
    subst q1
    exact go_iret (pc := 46) (Y := YX3_wholeAt) rfl dX3_wholeAt_46
  clear h17
  revert he16
  refine flp2 (go_icmp_eq (pc := 8) (Y := YX3_wholeAt) 19 dX3_wholeAt_8 (by decide)) ?_ ?_
  · refine im (go_aload_n (pc := 19) (Y := YX3_wholeAt) 0 dX3_wholeAt_19 rfl rfl) ?_
    refine flp (go_gR (pc := 20) (Y := YX3_wholeAt) fF1022 (by decide) q592 (Or.inl rfl) dX3_wholeAt_20) (fun v6 => ?_)
    refine flp (go_gI (pc := 23) (Y := YX3_wholeAt) fF56 (by decide) q388 (Or.inl rfl) dX3_wholeAt_23) (fun v7 => ?_)
    refine im (go_iload_n (pc := 26) (Y := YX3_wholeAt) 1 dX3_wholeAt_26 rfl rfl) ?_
    refine im (go_iload_n (pc := 27) (Y := YX3_wholeAt) 2 dX3_wholeAt_27 rfl rfl) ?_
    refine bpg (fun v8 he9 => ?_)
    refine im (go_callSN (pc := 28) (Y := YX3_wholeAt) (Yc := YX1_in) (y := yX1_in) (n := 3) (host := "ThirdWitness") [iV v7, iV p0, iV p1] [] rfl (mX1_in s0 he9) YOK_X1_in rfl q284 q129 q283 (by decide +kernel) (Nat.le_of_ble_eq_true rfl) (Nat.le_of_ble_eq_true rfl) (Nat.le_of_ble_eq_true rfl) dX3_wholeAt_28 (st2 := [iV v8]) rfl) ?_
    clear he9
    refine flp2 (go_if_ne (pc := 31) (Y := YX3_wholeAt) 39 dX3_wholeAt_31 (by decide)) ?_ ?_
    · refine im (go_aload_n (pc := 34) (Y := YX3_wholeAt) 0 dX3_wholeAt_34 rfl rfl) ?_
      refine im (go_iconst (pc := 35) (Y := YX3_wholeAt) (v := 4) dX3_wholeAt_35 rfl) ?_
      refine kdg (fun k10 => ?_)
      refine bpg (fun s11 he12 => ?_)
      refine im (go_callV (pc := 36) (Y := YX3_wholeAt) (Yc := YX3_wrong) (y := yX3_wrong) (n := 1) (c0 := 3) (q := (RX3, TX3, 5)) this [iV 4] [] rfl rfl k10 (mX3_wrong s0 he12) YOK_X3_wrong rfl q694 q134 q693 qs4 q691 (Nat.le_of_ble_eq_true rfl) (Nat.le_of_ble_eq_true rfl) (Nat.le_of_ble_eq_true rfl) dX3_wholeAt_36 (st2 := []) rfl) ?_
      clear he12
      refine e1 (fun q0 => ?_)
      subst q0
      exact go_sub [0] rfl hj39
    · refine e1 (fun q0 => ?_)
      subst q0
      exact go_sub [0] rfl hj39
  · refine im (go_aload_n (pc := 11) (Y := YX3_wholeAt) 0 dX3_wholeAt_11 rfl rfl) ?_
    refine im (go_iconst (pc := 12) (Y := YX3_wholeAt) (v := 1) dX3_wholeAt_12 rfl) ?_
    refine kdg (fun k13 => ?_)
    refine bpg (fun s14 he15 => ?_)
    refine im (go_callV (pc := 13) (Y := YX3_wholeAt) (Yc := YX3_wrong) (y := yX3_wrong) (n := 1) (c0 := 3) (q := (RX3, TX3, 5)) this [iV 1] [] rfl rfl k13 (mX3_wrong s0 he15) YOK_X3_wrong rfl q694 q134 q693 qs4 q691 (Nat.le_of_ble_eq_true rfl) (Nat.le_of_ble_eq_true rfl) (Nat.le_of_ble_eq_true rfl) dX3_wholeAt_13 (st2 := []) rfl) ?_
    clear he15
    refine im (go_goto (pc := 16) (Y := YX3_wholeAt) 39 dX3_wholeAt_16 (by decide)) ?_
    refine e1 (fun q0 => ?_)
    subst q0
    exact go_sub [0] rfl hj39
abbrev YX3_whole : mY := (RX3, cX3_whole, 4, (Option.some .int), 8, 179, false)
theorem YOK_X3_whole : YOK yX3_whole 2 := ⟨⟨by decide +kernel, by decide +kernel⟩, by decide +kernel⟩
theorem mX3_whole {G : gG} (s0 : St) {this : Nat} {p0 : Int32} {p1 : Int32} {sE : St} {vE : Int32} (h : sX3_whole s0 this p0 p1 = some (sE, vE)) : Mt G YX3_whole yX3_whole [rV (some this), iV p0, iV p1] s0 (some (iV vE)) sE := by
  refine go_start (ls0 := [(0, rV (some this)), (1, iV p0), (2, iV p1)]) (by decide +kernel) rfl (fun h => by cases h) (Nat.le_of_ble_eq_true rfl) rfl ?_
  revert h
  unfold sX3_whole
  refine im (go_aload_n (pc := 0) (Y := YX3_whole) 0 dX3_whole_0 rfl rfl) ?_
  refine im (go_iload_n (pc := 1) (Y := YX3_whole) 1 dX3_whole_1 rfl rfl) ?_
  refine im (go_iload_n (pc := 2) (Y := YX3_whole) 2 dX3_whole_2 rfl rfl) ?_
  refine kdg (fun k1 => ?_)
  refine bdg (fun s2 v3 he4 => ?_)
  refine im (go_callV (pc := 3) (Y := YX3_whole) (Yc := YX3_wholeAt) (y := yX3_wholeAt) (n := 2) (c0 := 3) (q := (RX3, TX3, 5)) this [iV p0, iV p1] [] rfl rfl k1 (mX3_wholeAt s0 he4) YOK_X3_wholeAt rfl q724 q134 q723 qs10 q721 (Nat.le_of_ble_eq_true rfl) (Nat.le_of_ble_eq_true rfl) (Nat.le_of_ble_eq_true rfl) dX3_whole_3 (st2 := [iV v3]) rfl) ?_
  clear he4
  refine im (go_istore_n (pc := 6) (Y := YX3_whole) (ls2 := [(3, iV v3), (0, rV (some this)), (1, iV p0), (2, iV p1)]) dX3_whole_6 rfl (Nat.le_of_ble_eq_true rfl) rfl) ?_
  refine im (go_aload_n (pc := 7) (Y := YX3_whole) 1 dX3_whole_7 rfl rfl) ?_
  refine kdg (fun k5 => ?_)
  refine bpg (fun s6 he7 => ?_)
  refine im (go_callV (pc := 8) (Y := YX3_whole) (Yc := YX3_on) (y := yX3_on) (n := 0) (c0 := 3) (q := (RX3, TX3, 5)) this [] [] rfl rfl k5 (mX3_on s2 he7) YOK_X3_on rfl q702 q134 q701 qs6 q699 (Nat.le_of_ble_eq_true rfl) (Nat.le_of_ble_eq_true rfl) (Nat.le_of_ble_eq_true rfl) dX3_whole_8 (st2 := []) rfl) ?_
  clear he7
  refine im (go_iload_n (pc := 11) (Y := YX3_whole) 0 dX3_whole_11 rfl rfl) ?_
  refine e2 (fun q0 q1 => ?_)
  subst q0
  subst q1
  exact go_iret (pc := 12) (Y := YX3_whole) rfl dX3_whole_12
abbrev YX3_part : mY := (RX3, cX3_part, 4, (Option.some .int), 9, 202, false)
theorem YOK_X3_part : YOK yX3_part 3 := ⟨⟨by decide +kernel, by decide +kernel⟩, by decide +kernel⟩
theorem mX3_part {G : gG} (s0 : St) {this : Nat} {p0 : Option Nat} {p1 : Int32} {p2 : Int32} {sE : St} {vE : Int32} (h : sX3_part s0 this p0 p1 p2 = some (sE, vE)) : Mt G YX3_part yX3_part [rV (some this), rV p0, iV p1, iV p2] s0 (some (iV vE)) sE := by
  refine go_start (ls0 := [(0, rV (some this)), (1, rV p0), (2, iV p1), (3, iV p2)]) (by decide +kernel) rfl (fun h => by cases h) (Nat.le_of_ble_eq_true rfl) rfl ?_
  revert h
  unfold sX3_part
  refine im (go_aload_n (pc := 0) (Y := YX3_part) 0 dX3_part_0 rfl rfl) ?_
  refine im (go_aload_n (pc := 1) (Y := YX3_part) 1 dX3_part_1 rfl rfl) ?_
  refine kdg (fun k1 => ?_)
  refine bpg (fun s2 he3 => ?_)
  refine im (go_callV (pc := 2) (Y := YX3_part) (Yc := YX3_needs) (y := yX3_needs) (n := 1) (c0 := 3) (q := (RX3, TX3, 5)) this [rV p0] [] rfl rfl k1 (mX3_needs s0 he3) YOK_X3_needs rfl q711 q134 q710 qs8 q708 (Nat.le_of_ble_eq_true rfl) (Nat.le_of_ble_eq_true rfl) (Nat.le_of_ble_eq_true rfl) dX3_part_2 (st2 := []) rfl) ?_
  clear he3
  refine im (go_aload_n (pc := 5) (Y := YX3_part) 0 dX3_part_5 rfl rfl) ?_
  refine im (go_iload_n (pc := 6) (Y := YX3_part) 2 dX3_part_6 rfl rfl) ?_
  refine im (go_iload_n (pc := 7) (Y := YX3_part) 3 dX3_part_7 rfl rfl) ?_
  refine kdg (fun k4 => ?_)
  refine bdg (fun s5 v6 he7 => ?_)
  refine im (go_callV (pc := 8) (Y := YX3_part) (Yc := YX3_whole) (y := yX3_whole) (n := 2) (c0 := 3) (q := (RX3, TX3, 5)) this [iV p1, iV p2] [] rfl rfl k4 (mX3_whole s2 he7) YOK_X3_whole rfl q720 q134 q719 qs9 q717 (Nat.le_of_ble_eq_true rfl) (Nat.le_of_ble_eq_true rfl) (Nat.le_of_ble_eq_true rfl) dX3_part_8 (st2 := [iV v6]) rfl) ?_
  clear he7
  refine e2 (fun q0 q1 => ?_)
  subst q0
  subst q1
  exact go_iret (pc := 11) (Y := YX3_part) rfl dX3_part_11
abbrev YX3_townLine : mY := (RX3, cX3_townLine, 2, (Option.none : Option Jvm.ClassFile.FieldType), 10, 225, false)
theorem YOK_X3_townLine : YOK yX3_townLine 0 := ⟨⟨by decide +kernel, by decide +kernel⟩, by decide +kernel⟩
theorem mX3_townLine {G : gG} (s0 : St) {this : Nat} {sE : St} (h : sX3_townLine s0 this = some sE) : Mt G YX3_townLine yX3_townLine [rV (some this)] s0 none sE := by
  refine go_start (ls0 := [(0, rV (some this))]) (by decide +kernel) rfl (fun h => by cases h) (Nat.le_of_ble_eq_true rfl) rfl ?_
  revert h
  unfold sX3_townLine
  refine im (go_aload_n (pc := 0) (Y := YX3_townLine) 0 dX3_townLine_0 rfl rfl) ?_
  refine flp (go_gR (pc := 1) (Y := YX3_townLine) fF1021 (by decide) q591 (Or.inl rfl) dX3_townLine_1) (fun v1 => ?_)
  refine flp (go_gI (pc := 4) (Y := YX3_townLine) fF49 (by decide) q320 (Or.inl rfl) dX3_townLine_4) (fun v2 => ?_)
  refine im (go_iconst (pc := 7) (Y := YX3_townLine) (v := -1) dX3_townLine_7 rfl) ?_
  refine bpg (fun s3 he19 h20 => ?_)
  have hj16 : Go G YX3_townLine s0 sE none 16 [(0, rV (some this))] [] s3 := by
    clear he19
    revert h20
    refine im (go_aload_n (pc := 16) (Y := YX3_townLine) 0 dX3_townLine_16 rfl rfl) ?_
    refine kdg (fun k4 => ?_)
    refine bpg (fun s5 he6 => ?_)
    refine im (go_callV (pc := 17) (Y := YX3_townLine) (Yc := YX3_on) (y := yX3_on) (n := 0) (c0 := 3) (q := (RX3, TX3, 5)) this [] [] rfl rfl k4 (mX3_on s3 he6) YOK_X3_on rfl q702 q134 q701 qs6 q699 (Nat.le_of_ble_eq_true rfl) (Nat.le_of_ble_eq_true rfl) (Nat.le_of_ble_eq_true rfl) dX3_townLine_17 (st2 := []) rfl) ?_
    clear he6
    refine im (go_aload_n (pc := 20) (Y := YX3_townLine) 0 dX3_townLine_20 rfl rfl) ?_
    refine im (go_ldcS (pc := 21) (Y := YX3_townLine) (idx := 160) (i := 4) (tx := "boys") (by decide +kernel) dX3_townLine_21) ?_
    refine im (go_iconst (pc := 23) (Y := YX3_townLine) (v := 0) dX3_townLine_23 rfl) ?_
    refine im (go_bipush (pc := 24) (Y := YX3_townLine) (v := 100) dX3_townLine_24 rfl) ?_
    refine kdg (fun k7 => ?_)
    refine bdg (fun s8 v9 he10 => ?_)
    refine im (go_callV (pc := 26) (Y := YX3_townLine) (Yc := YX3_part) (y := yX3_part) (n := 3) (c0 := 3) (q := (RX3, TX3, 5)) this [rV (s5.ks 4), iV 0, iV 100] [] rfl rfl k7 (mX3_part s5 he10) YOK_X3_part rfl q707 q134 q706 qs7 q704 (Nat.le_of_ble_eq_true rfl) (Nat.le_of_ble_eq_true rfl) (Nat.le_of_ble_eq_true rfl) dX3_townLine_26 (st2 := [iV v9]) rfl) ?_
    clear he10
    refine im (go_istore_n (pc := 29) (Y := YX3_townLine) (ls2 := [(1, iV v9), (0, rV (some this))]) dX3_townLine_29 rfl (Nat.le_of_ble_eq_true rfl) rfl) ?_
    refine im (go_aload_n (pc := 30) (Y := YX3_townLine) 1 dX3_townLine_30 rfl rfl) ?_
    refine kdg (fun k11 => ?_)
    refine bpg (fun v12 he13 => ?_)
    refine im (go_callV (pc := 31) (Y := YX3_townLine) (Yc := YX3_isOver) (y := yX3_isOver) (n := 0) (c0 := 3) (q := (RX3, TX3, 5)) this [] [] rfl rfl k11 (mX3_isOver s8 he13) YOK_X3_isOver rfl q698 q134 q697 qs5 q695 (Nat.le_of_ble_eq_true rfl) (Nat.le_of_ble_eq_true rfl) (Nat.le_of_ble_eq_true rfl) dX3_townLine_31 (st2 := [iV v12]) rfl) ?_
    clear he13
    refine flp2 (go_if_ne (pc := 34) (Y := YX3_townLine) 45 dX3_townLine_34 (by decide)) ?_ ?_
    · refine im (go_aload_n (pc := 37) (Y := YX3_townLine) 1 dX3_townLine_37 rfl rfl) ?_
      refine flp (go_gR (pc := 38) (Y := YX3_townLine) fF1021 (by decide) q591 (Or.inl rfl) dX3_townLine_38) (fun v14 => ?_)
      refine im (go_iload_n (pc := 41) (Y := YX3_townLine) 0 dX3_townLine_41 rfl rfl) ?_
      refine flp (go_pI (pc := 42) (Y := YX3_townLine) fF49 (by decide) q320 (Or.inl rfl) (Or.inl rfl) rfl rfl rfl dX3_townLine_42) (fun s15 => ?_)
      refine e1 (fun q0 => ?_)
      subst q0
      exact go_vret (pc := 45) (Y := YX3_townLine) rfl dX3_townLine_45
    · refine e1 (fun q0 => ?_)
      subst q0
      exact go_vret (pc := 45) (Y := YX3_townLine) rfl dX3_townLine_45
  clear h20
  revert he19
  refine flp2 (go_icmp_eq (pc := 8) (Y := YX3_townLine) 16 dX3_townLine_8 (by decide)) ?_ ?_
  · refine e1 (fun q0 => ?_)
    subst q0
    exact go_sub [0] rfl hj16
  · refine im (go_aload_n (pc := 11) (Y := YX3_townLine) 0 dX3_townLine_11 rfl rfl) ?_
    refine im (go_iconst (pc := 12) (Y := YX3_townLine) (v := 3) dX3_townLine_12 rfl) ?_
    refine kdg (fun k16 => ?_)
    refine bpg (fun s17 he18 => ?_)
    refine im (go_callV (pc := 13) (Y := YX3_townLine) (Yc := YX3_wrong) (y := yX3_wrong) (n := 1) (c0 := 3) (q := (RX3, TX3, 5)) this [iV 3] [] rfl rfl k16 (mX3_wrong s0 he18) YOK_X3_wrong rfl q694 q134 q693 qs4 q691 (Nat.le_of_ble_eq_true rfl) (Nat.le_of_ble_eq_true rfl) (Nat.le_of_ble_eq_true rfl) dX3_townLine_13 (st2 := []) rfl) ?_
    clear he18
    refine e1 (fun q0 => ?_)
    subst q0
    exact go_sub [0] rfl hj16
abbrev YX3_begins : mY := (RX3, cX3_begins, 3, (Option.none : Option Jvm.ClassFile.FieldType), 8, 179, false)
theorem YOK_X3_begins : YOK yX3_begins 2 := ⟨⟨by decide +kernel, by decide +kernel⟩, by decide +kernel⟩
theorem mX3_begins {G : gG} (s0 : St) {this : Nat} {p0 : Int32} {p1 : Int32} {sE : St} (h : sX3_begins s0 this p0 p1 = some sE) : Mt G YX3_begins yX3_begins [rV (some this), iV p0, iV p1] s0 none sE := by
  refine go_start (ls0 := [(0, rV (some this)), (1, iV p0), (2, iV p1)]) (by decide +kernel) rfl (fun h => by cases h) (Nat.le_of_ble_eq_true rfl) rfl ?_
  revert h
  unfold sX3_begins
  refine im (go_iload_n (pc := 0) (Y := YX3_begins) 1 dX3_begins_0 rfl rfl) ?_
  refine im (go_iload_n (pc := 1) (Y := YX3_begins) 2 dX3_begins_1 rfl rfl) ?_
  refine bpg (fun s1 he16 h17 => ?_)
  have hj10 : Go G YX3_begins s0 sE none 10 [(0, rV (some this))] [] s1 := by
    clear he16
    revert h17
    refine im (go_aload_n (pc := 10) (Y := YX3_begins) 0 dX3_begins_10 rfl rfl) ?_
    refine flp (go_gR (pc := 11) (Y := YX3_begins) fF1021 (by decide) q591 (Or.inl rfl) dX3_begins_11) (fun v2 => ?_)
    refine flp (go_gI (pc := 14) (Y := YX3_begins) fF49 (by decide) q320 (Or.inl rfl) dX3_begins_14) (fun v3 => ?_)
    refine im (go_iconst (pc := 17) (Y := YX3_begins) (v := -1) dX3_begins_17 rfl) ?_
    refine bpg (fun s4 he11 h12 => ?_)
    have hj27 : Go G YX3_begins s0 sE none 27 [(0, rV (some this))] [] s4 := by
      clear he11
      revert h12
      refine im (go_aload_n (pc := 27) (Y := YX3_begins) 0 dX3_begins_27 rfl rfl) ?_
      refine kdg (fun k5 => ?_)
      refine bpg (fun s6 he7 => ?_)
      refine im (go_callV (pc := 28) (Y := YX3_begins) (Yc := YX3_on) (y := yX3_on) (n := 0) (c0 := 3) (q := (RX3, TX3, 5)) this [] [] rfl rfl k5 (mX3_on s4 he7) YOK_X3_on rfl q702 q134 q701 qs6 q699 (Nat.le_of_ble_eq_true rfl) (Nat.le_of_ble_eq_true rfl) (Nat.le_of_ble_eq_true rfl) dX3_begins_28 (st2 := []) rfl) ?_
      clear he7
      refine e1 (fun q0 => ?_)
      subst q0
      exact go_vret (pc := 31) (Y := YX3_begins) rfl dX3_begins_31
    clear h12
    revert he11
    refine flp2 (go_icmp_ne (pc := 18) (Y := YX3_begins) 27 dX3_begins_18 (by decide)) ?_ ?_
    · refine im (go_aload_n (pc := 21) (Y := YX3_begins) 0 dX3_begins_21 rfl rfl) ?_
      refine im (go_bipush (pc := 22) (Y := YX3_begins) (v := 6) dX3_begins_22 rfl) ?_
      refine kdg (fun k8 => ?_)
      refine bpg (fun s9 he10 => ?_)
      refine im (go_callV (pc := 24) (Y := YX3_begins) (Yc := YX3_wrong) (y := yX3_wrong) (n := 1) (c0 := 3) (q := (RX3, TX3, 5)) this [iV 6] [] rfl rfl k8 (mX3_wrong s1 he10) YOK_X3_wrong rfl q694 q134 q693 qs4 q691 (Nat.le_of_ble_eq_true rfl) (Nat.le_of_ble_eq_true rfl) (Nat.le_of_ble_eq_true rfl) dX3_begins_24 (st2 := []) rfl) ?_
      clear he10
      refine e1 (fun q0 => ?_)
      subst q0
      exact go_sub [0] rfl hj27
    · refine e1 (fun q0 => ?_)
      subst q0
      exact go_sub [0] rfl hj27
  clear h17
  revert he16
  refine flp2 (go_icmp_ne (pc := 2) (Y := YX3_begins) 10 dX3_begins_2 (by decide)) ?_ ?_
  · refine im (go_aload_n (pc := 5) (Y := YX3_begins) 0 dX3_begins_5 rfl rfl) ?_
    refine im (go_iconst (pc := 6) (Y := YX3_begins) (v := 5) dX3_begins_6 rfl) ?_
    refine kdg (fun k13 => ?_)
    refine bpg (fun s14 he15 => ?_)
    refine im (go_callV (pc := 7) (Y := YX3_begins) (Yc := YX3_wrong) (y := yX3_wrong) (n := 1) (c0 := 3) (q := (RX3, TX3, 5)) this [iV 5] [] rfl rfl k13 (mX3_wrong s0 he15) YOK_X3_wrong rfl q694 q134 q693 qs4 q691 (Nat.le_of_ble_eq_true rfl) (Nat.le_of_ble_eq_true rfl) (Nat.le_of_ble_eq_true rfl) dX3_begins_7 (st2 := []) rfl) ?_
    clear he15
    refine e1 (fun q0 => ?_)
    subst q0
    exact go_sub [0] rfl hj10
  · refine e1 (fun q0 => ?_)
    subst q0
    exact go_sub [0] rfl hj10
abbrev YX6_isName : mY := (RX6, cX6_isName, 3, (Option.some .boolean), 4, 90, false)
theorem YOK_X6_isName : YOK yX6_isName 0 := ⟨⟨by decide +kernel, by decide +kernel⟩, by decide +kernel⟩
theorem mX6_isName {G : gG} (s0 : St) {this : Nat} {sE : St} {vE : Int32} (h : sX6_isName s0 this = some (sE, vE)) : Mt G YX6_isName yX6_isName [rV (some this)] s0 (some (iV vE)) sE := by
  refine go_start (ls0 := [(0, rV (some this))]) (by decide +kernel) rfl (fun h => by cases h) (Nat.le_of_ble_eq_true rfl) rfl ?_
  revert h
  unfold sX6_isName
  refine im (go_aload_n (pc := 0) (Y := YX6_isName) 0 dX6_isName_0 rfl rfl) ?_
  refine flp (go_gI (pc := 1) (Y := YX6_isName) fF54 (by decide) q383 (Or.inl rfl) dX6_isName_1) (fun v1 => ?_)
  refine im (go_iconst (pc := 4) (Y := YX6_isName) (v := 2) dX6_isName_4 rfl) ?_
  refine flp2 (go_icmp_eq (pc := 5) (Y := YX6_isName) 10 dX6_isName_5 (by decide)) ?_ ?_
  · refine im (go_aload_n (pc := 10) (Y := YX6_isName) 0 dX6_isName_10 rfl rfl) ?_
    refine flp (go_gR (pc := 11) (Y := YX6_isName) fF1029 (by decide) q389 (Or.inl rfl) dX6_isName_11) (fun v2 => ?_)
    refine im (go_astore_n (pc := 14) (Y := YX6_isName) (ls2 := [(1, rV v2), (0, rV (some this))]) dX6_isName_14 rfl (Nat.le_of_ble_eq_true rfl) rfl) ?_
    refine im (go_iconst (pc := 15) (Y := YX6_isName) (v := -1) dX6_isName_15 rfl) ?_
    refine im (go_istore_n (pc := 16) (Y := YX6_isName) (ls2 := [(2, iV (-1)), (1, rV v2), (0, rV (some this))]) dX6_isName_16 rfl (Nat.le_of_ble_eq_true rfl) rfl) ?_
    refine im (go_aload_n (pc := 17) (Y := YX6_isName) 1 dX6_isName_17 rfl rfl) ?_
    refine ivg (fun w3 r4 k5 => ?_)
    refine bdg (fun s6 v7 he8 => ?_)
    refine im (go_callV (pc := 18) (Y := YX6_isName) (Yc := YJ5_hashCode) (y := yJ5_hashCode) (n := 0) (c0 := 8) (q := (RJ5, TJ5, 4)) w3 [] [] (by rw [r4]; rfl) rfl k5 (mJ5_hashCode s0 he8) YOK_J5_hashCode rfl q620 q140 q618 q619 q748 (Nat.le_of_ble_eq_true rfl) (Nat.le_of_ble_eq_true rfl) (Nat.le_of_ble_eq_true rfl) dX6_isName_18 (st2 := [iV v7]) rfl) ?_
    clear he8
    refine bpg (fun v9 he91 h92 => ?_)
    have hj230 : Go G YX6_isName s0 sE (some (iV vE)) 230 [(2, iV v9)] [] s6 := by
      clear he91
      revert h92
      refine im (go_iload_n (pc := 230) (Y := YX6_isName) 0 dX6_isName_230 rfl rfl) ?_
      refine ifg (fun c10 => ?_) (fun n11 => ?_)
      · refine im (go_tIn (pc := 231) (Y := YX6_isName) 280 dX6_isName_231 (by rw [c10]; decide) (by rw [c10]; decide) (off := 49) (by rw [c10]; rfl) (by decide)) ?_
        clear c10
        refine im (go_iconst (pc := 280) (Y := YX6_isName) (v := 0) dX6_isName_280 rfl) ?_
        refine e2 (fun q0 q1 => ?_)
        subst q0
        subst q1
        exact go_zret (pc := 281) (Y := YX6_isName) rfl rfl dX6_isName_281
      refine ifg (fun c12 => ?_) (fun n13 => ?_)
      · refine im (go_tIn 280 dX6_isName_231 (by rw [c12]; decide) (by rw [c12]; decide) (off := 49) (by rw [c12]; rfl) (by decide)) ?_
        clear c12
        refine im (go_iconst (pc := 280) (Y := YX6_isName) (v := 0) dX6_isName_280 rfl) ?_
        refine e2 (fun q0 q1 => ?_)
        subst q0
        subst q1
        exact go_zret (pc := 281) (Y := YX6_isName) rfl rfl dX6_isName_281
      refine ifg (fun c14 => ?_) (fun n15 => ?_)
      · refine im (go_tIn 280 dX6_isName_231 (by rw [c14]; decide) (by rw [c14]; decide) (off := 49) (by rw [c14]; rfl) (by decide)) ?_
        clear c14
        refine im (go_iconst (pc := 280) (Y := YX6_isName) (v := 0) dX6_isName_280 rfl) ?_
        refine e2 (fun q0 q1 => ?_)
        subst q0
        subst q1
        exact go_zret (pc := 281) (Y := YX6_isName) rfl rfl dX6_isName_281
      refine ifg (fun c16 => ?_) (fun n17 => ?_)
      · refine im (go_tIn 280 dX6_isName_231 (by rw [c16]; decide) (by rw [c16]; decide) (off := 49) (by rw [c16]; rfl) (by decide)) ?_
        clear c16
        refine im (go_iconst (pc := 280) (Y := YX6_isName) (v := 0) dX6_isName_280 rfl) ?_
        refine e2 (fun q0 q1 => ?_)
        subst q0
        subst q1
        exact go_zret (pc := 281) (Y := YX6_isName) rfl rfl dX6_isName_281
      refine ifg (fun c18 => ?_) (fun n19 => ?_)
      · refine im (go_tIn 280 dX6_isName_231 (by rw [c18]; decide) (by rw [c18]; decide) (off := 49) (by rw [c18]; rfl) (by decide)) ?_
        clear c18
        refine im (go_iconst (pc := 280) (Y := YX6_isName) (v := 0) dX6_isName_280 rfl) ?_
        refine e2 (fun q0 q1 => ?_)
        subst q0
        subst q1
        exact go_zret (pc := 281) (Y := YX6_isName) rfl rfl dX6_isName_281
      refine ifg (fun c20 => ?_) (fun n21 => ?_)
      · refine im (go_tIn 280 dX6_isName_231 (by rw [c20]; decide) (by rw [c20]; decide) (off := 49) (by rw [c20]; rfl) (by decide)) ?_
        clear c20
        refine im (go_iconst (pc := 280) (Y := YX6_isName) (v := 0) dX6_isName_280 rfl) ?_
        refine e2 (fun q0 q1 => ?_)
        subst q0
        subst q1
        exact go_zret (pc := 281) (Y := YX6_isName) rfl rfl dX6_isName_281
      refine ifg (fun c22 => ?_) (fun n23 => ?_)
      · refine im (go_tIn 280 dX6_isName_231 (by rw [c22]; decide) (by rw [c22]; decide) (off := 49) (by rw [c22]; rfl) (by decide)) ?_
        clear c22
        refine im (go_iconst (pc := 280) (Y := YX6_isName) (v := 0) dX6_isName_280 rfl) ?_
        refine e2 (fun q0 q1 => ?_)
        subst q0
        subst q1
        exact go_zret (pc := 281) (Y := YX6_isName) rfl rfl dX6_isName_281
      refine ifg (fun c24 => ?_) (fun n25 => ?_)
      · refine im (go_tIn 280 dX6_isName_231 (by rw [c24]; decide) (by rw [c24]; decide) (off := 49) (by rw [c24]; rfl) (by decide)) ?_
        clear c24
        refine im (go_iconst (pc := 280) (Y := YX6_isName) (v := 0) dX6_isName_280 rfl) ?_
        refine e2 (fun q0 q1 => ?_)
        subst q0
        subst q1
        exact go_zret (pc := 281) (Y := YX6_isName) rfl rfl dX6_isName_281
      refine ifg (fun c26 => ?_) (fun n27 => ?_)
      · refine im (go_tIn 280 dX6_isName_231 (by rw [c26]; decide) (by rw [c26]; decide) (off := 49) (by rw [c26]; rfl) (by decide)) ?_
        clear c26
        refine im (go_iconst (pc := 280) (Y := YX6_isName) (v := 0) dX6_isName_280 rfl) ?_
        refine e2 (fun q0 q1 => ?_)
        subst q0
        subst q1
        exact go_zret (pc := 281) (Y := YX6_isName) rfl rfl dX6_isName_281
      have ht : ∀ i : Nat, i < 9 → ¬ v9 = Int32.ofInt (0 + i) := by
        intro i hi
        rcases (show i = 0 ∨ i = 1 ∨ i = 2 ∨ i = 3 ∨ i = 4 ∨ i = 5 ∨ i = 6 ∨ i = 7 ∨ i = 8 by omega) with rfl | rfl | rfl | rfl | rfl | rfl | rfl | rfl | rfl
        · exact n11
        · exact n13
        · exact n15
        · exact n17
        · exact n19
        · exact n21
        · exact n23
        · exact n25
        · exact n27
      refine im (go_tOut 282 9 dX6_isName_231 (by decide) ht (by decide)) ?_
      clear ht
      refine im (go_iconst (pc := 282) (Y := YX6_isName) (v := 1) dX6_isName_282 rfl) ?_
      refine e2 (fun q0 q1 => ?_)
      subst q0
      subst q1
      exact go_zret (pc := 283) (Y := YX6_isName) rfl rfl dX6_isName_283
    clear h92
    revert he91
    refine ifg (fun c33 => ?_) (fun n34 => ?_)
    · refine im (go_lsw (pc := 21) (Y := YX6_isName) 146 (off := 125) dX6_isName_21 (by decide +kernel) (by rw [c33]; decide +kernel) (by decide)) ?_
      clear c33
      refine im (go_aload_n (pc := 146) (Y := YX6_isName) 1 dX6_isName_146 rfl rfl) ?_
      refine im (go_ldcS (pc := 147) (Y := YX6_isName) (idx := 38) (i := 12) (tx := "person") (by decide +kernel) dX6_isName_147) ?_
      refine ivg (fun w28 r29 k30 => ?_)
      refine bpg (fun v31 he32 => ?_)
      refine im (go_callV (pc := 149) (Y := YX6_isName) (Yc := YJ5_equals) (y := yJ5_equals) (n := 1) (c0 := 8) (q := (RJ5, TJ5, 4)) w28 [rV (s6.ks 12)] [] (by rw [r29]; rfl) rfl k30 (mJ5_equals s6 he32) YOK_J5_equals rfl q674 q140 q672 q673 q716 (Nat.le_of_ble_eq_true rfl) (Nat.le_of_ble_eq_true rfl) (Nat.le_of_ble_eq_true rfl) dX6_isName_149 (st2 := [iV v31]) rfl) ?_
      clear he32
      refine flp2 (go_if_eq (pc := 152) (Y := YX6_isName) 230 dX6_isName_152 (by decide)) ?_ ?_
      · refine e1 (fun q0 => ?_)
        subst q0
        exact go_sub [0] rfl hj230
      · refine im (go_iconst (pc := 155) (Y := YX6_isName) (v := 3) dX6_isName_155 rfl) ?_
        refine im (go_istore_n (pc := 156) (Y := YX6_isName) (ls2 := [(2, iV 3), (1, rV v2), (0, rV (some this))]) dX6_isName_156 rfl (Nat.le_of_ble_eq_true rfl) rfl) ?_
        refine im (go_goto (pc := 157) (Y := YX6_isName) 230 dX6_isName_157 (by decide)) ?_
        refine e1 (fun q0 => ?_)
        subst q0
        exact go_sub [0] rfl hj230
    refine ifg (fun c40 => ?_) (fun n41 => ?_)
    · refine im (go_lsw 203 (off := 182) dX6_isName_21 (by decide +kernel) (by rw [c40]; decide +kernel) (by decide)) ?_
      clear c40
      refine im (go_aload_n (pc := 203) (Y := YX6_isName) 1 dX6_isName_203 rfl rfl) ?_
      refine im (go_ldcS (pc := 204) (Y := YX6_isName) (idx := 46) (i := 18) (tx := "unsure") (by decide +kernel) dX6_isName_204) ?_
      refine ivg (fun w35 r36 k37 => ?_)
      refine bpg (fun v38 he39 => ?_)
      refine im (go_callV (pc := 206) (Y := YX6_isName) (Yc := YJ5_equals) (y := yJ5_equals) (n := 1) (c0 := 8) (q := (RJ5, TJ5, 4)) w35 [rV (s6.ks 18)] [] (by rw [r36]; rfl) rfl k37 (mJ5_equals s6 he39) YOK_J5_equals rfl q674 q140 q672 q673 q716 (Nat.le_of_ble_eq_true rfl) (Nat.le_of_ble_eq_true rfl) (Nat.le_of_ble_eq_true rfl) dX6_isName_206 (st2 := [iV v38]) rfl) ?_
      clear he39
      refine flp2 (go_if_eq (pc := 209) (Y := YX6_isName) 230 dX6_isName_209 (by decide)) ?_ ?_
      · refine e1 (fun q0 => ?_)
        subst q0
        exact go_sub [0] rfl hj230
      · refine im (go_bipush (pc := 212) (Y := YX6_isName) (v := 7) dX6_isName_212 rfl) ?_
        refine im (go_istore_n (pc := 214) (Y := YX6_isName) (ls2 := [(2, iV 7), (1, rV v2), (0, rV (some this))]) dX6_isName_214 rfl (Nat.le_of_ble_eq_true rfl) rfl) ?_
        refine im (go_goto (pc := 215) (Y := YX6_isName) 230 dX6_isName_215 (by decide)) ?_
        refine e1 (fun q0 => ?_)
        subst q0
        exact go_sub [0] rfl hj230
    refine ifg (fun c47 => ?_) (fun n48 => ?_)
    · refine im (go_lsw 160 (off := 139) dX6_isName_21 (by decide +kernel) (by rw [c47]; decide +kernel) (by decide)) ?_
      clear c47
      refine im (go_aload_n (pc := 160) (Y := YX6_isName) 1 dX6_isName_160 rfl rfl) ?_
      refine im (go_ldcS (pc := 161) (Y := YX6_isName) (idx := 40) (i := 9) (tx := "goes") (by decide +kernel) dX6_isName_161) ?_
      refine ivg (fun w42 r43 k44 => ?_)
      refine bpg (fun v45 he46 => ?_)
      refine im (go_callV (pc := 163) (Y := YX6_isName) (Yc := YJ5_equals) (y := yJ5_equals) (n := 1) (c0 := 8) (q := (RJ5, TJ5, 4)) w42 [rV (s6.ks 9)] [] (by rw [r43]; rfl) rfl k44 (mJ5_equals s6 he46) YOK_J5_equals rfl q674 q140 q672 q673 q716 (Nat.le_of_ble_eq_true rfl) (Nat.le_of_ble_eq_true rfl) (Nat.le_of_ble_eq_true rfl) dX6_isName_163 (st2 := [iV v45]) rfl) ?_
      clear he46
      refine flp2 (go_if_eq (pc := 166) (Y := YX6_isName) 230 dX6_isName_166 (by decide)) ?_ ?_
      · refine e1 (fun q0 => ?_)
        subst q0
        exact go_sub [0] rfl hj230
      · refine im (go_iconst (pc := 169) (Y := YX6_isName) (v := 4) dX6_isName_169 rfl) ?_
        refine im (go_istore_n (pc := 170) (Y := YX6_isName) (ls2 := [(2, iV 4), (1, rV v2), (0, rV (some this))]) dX6_isName_170 rfl (Nat.le_of_ble_eq_true rfl) rfl) ?_
        refine im (go_goto (pc := 171) (Y := YX6_isName) 230 dX6_isName_171 (by decide)) ?_
        refine e1 (fun q0 => ?_)
        subst q0
        exact go_sub [0] rfl hj230
    refine ifg (fun c54 => ?_) (fun n55 => ?_)
    · refine im (go_lsw 188 (off := 167) dX6_isName_21 (by decide +kernel) (by rw [c54]; decide +kernel) (by decide)) ?_
      clear c54
      refine im (go_aload_n (pc := 188) (Y := YX6_isName) 1 dX6_isName_188 rfl rfl) ?_
      refine im (go_ldcS (pc := 189) (Y := YX6_isName) (idx := 44) (i := 10) (tx := "hire") (by decide +kernel) dX6_isName_189) ?_
      refine ivg (fun w49 r50 k51 => ?_)
      refine bpg (fun v52 he53 => ?_)
      refine im (go_callV (pc := 191) (Y := YX6_isName) (Yc := YJ5_equals) (y := yJ5_equals) (n := 1) (c0 := 8) (q := (RJ5, TJ5, 4)) w49 [rV (s6.ks 10)] [] (by rw [r50]; rfl) rfl k51 (mJ5_equals s6 he53) YOK_J5_equals rfl q674 q140 q672 q673 q716 (Nat.le_of_ble_eq_true rfl) (Nat.le_of_ble_eq_true rfl) (Nat.le_of_ble_eq_true rfl) dX6_isName_191 (st2 := [iV v52]) rfl) ?_
      clear he53
      refine flp2 (go_if_eq (pc := 194) (Y := YX6_isName) 230 dX6_isName_194 (by decide)) ?_ ?_
      · refine e1 (fun q0 => ?_)
        subst q0
        exact go_sub [0] rfl hj230
      · refine im (go_bipush (pc := 197) (Y := YX6_isName) (v := 6) dX6_isName_197 rfl) ?_
        refine im (go_istore_n (pc := 199) (Y := YX6_isName) (ls2 := [(2, iV 6), (1, rV v2), (0, rV (some this))]) dX6_isName_199 rfl (Nat.le_of_ble_eq_true rfl) rfl) ?_
        refine im (go_goto (pc := 200) (Y := YX6_isName) 230 dX6_isName_200 (by decide)) ?_
        refine e1 (fun q0 => ?_)
        subst q0
        exact go_sub [0] rfl hj230
    refine ifg (fun c61 => ?_) (fun n62 => ?_)
    · refine im (go_lsw 132 (off := 111) dX6_isName_21 (by decide +kernel) (by rw [c61]; decide +kernel) (by decide)) ?_
      clear c61
      refine im (go_aload_n (pc := 132) (Y := YX6_isName) 1 dX6_isName_132 rfl rfl) ?_
      refine im (go_ldcS (pc := 133) (Y := YX6_isName) (idx := 36) (i := 16) (tx := "sees") (by decide +kernel) dX6_isName_133) ?_
      refine ivg (fun w56 r57 k58 => ?_)
      refine bpg (fun v59 he60 => ?_)
      refine im (go_callV (pc := 135) (Y := YX6_isName) (Yc := YJ5_equals) (y := yJ5_equals) (n := 1) (c0 := 8) (q := (RJ5, TJ5, 4)) w56 [rV (s6.ks 16)] [] (by rw [r57]; rfl) rfl k58 (mJ5_equals s6 he60) YOK_J5_equals rfl q674 q140 q672 q673 q716 (Nat.le_of_ble_eq_true rfl) (Nat.le_of_ble_eq_true rfl) (Nat.le_of_ble_eq_true rfl) dX6_isName_135 (st2 := [iV v59]) rfl) ?_
      clear he60
      refine flp2 (go_if_eq (pc := 138) (Y := YX6_isName) 230 dX6_isName_138 (by decide)) ?_ ?_
      · refine e1 (fun q0 => ?_)
        subst q0
        exact go_sub [0] rfl hj230
      · refine im (go_iconst (pc := 141) (Y := YX6_isName) (v := 2) dX6_isName_141 rfl) ?_
        refine im (go_istore_n (pc := 142) (Y := YX6_isName) (ls2 := [(2, iV 2), (1, rV v2), (0, rV (some this))]) dX6_isName_142 rfl (Nat.le_of_ble_eq_true rfl) rfl) ?_
        refine im (go_goto (pc := 143) (Y := YX6_isName) 230 dX6_isName_143 (by decide)) ?_
        refine e1 (fun q0 => ?_)
        subst q0
        exact go_sub [0] rfl hj230
    refine ifg (fun c68 => ?_) (fun n69 => ?_)
    · refine im (go_lsw 104 (off := 83) dX6_isName_21 (by decide +kernel) (by rw [c68]; decide +kernel) (by decide)) ?_
      clear c68
      refine im (go_aload_n (pc := 104) (Y := YX6_isName) 1 dX6_isName_104 rfl rfl) ?_
      refine im (go_ldcS (pc := 105) (Y := YX6_isName) (idx := 33) (i := 17) (tx := "town") (by decide +kernel) dX6_isName_105) ?_
      refine ivg (fun w63 r64 k65 => ?_)
      refine bpg (fun v66 he67 => ?_)
      refine im (go_callV (pc := 107) (Y := YX6_isName) (Yc := YJ5_equals) (y := yJ5_equals) (n := 1) (c0 := 8) (q := (RJ5, TJ5, 4)) w63 [rV (s6.ks 17)] [] (by rw [r64]; rfl) rfl k65 (mJ5_equals s6 he67) YOK_J5_equals rfl q674 q140 q672 q673 q716 (Nat.le_of_ble_eq_true rfl) (Nat.le_of_ble_eq_true rfl) (Nat.le_of_ble_eq_true rfl) dX6_isName_107 (st2 := [iV v66]) rfl) ?_
      clear he67
      refine flp2 (go_if_eq (pc := 110) (Y := YX6_isName) 230 dX6_isName_110 (by decide)) ?_ ?_
      · refine e1 (fun q0 => ?_)
        subst q0
        exact go_sub [0] rfl hj230
      · refine im (go_iconst (pc := 113) (Y := YX6_isName) (v := 0) dX6_isName_113 rfl) ?_
        refine im (go_istore_n (pc := 114) (Y := YX6_isName) (ls2 := [(2, iV 0), (1, rV v2), (0, rV (some this))]) dX6_isName_114 rfl (Nat.le_of_ble_eq_true rfl) rfl) ?_
        refine im (go_goto (pc := 115) (Y := YX6_isName) 230 dX6_isName_115 (by decide)) ?_
        refine e1 (fun q0 => ?_)
        subst q0
        exact go_sub [0] rfl hj230
    refine ifg (fun c75 => ?_) (fun n76 => ?_)
    · refine im (go_lsw 218 (off := 197) dX6_isName_21 (by decide +kernel) (by rw [c75]; decide +kernel) (by decide)) ?_
      clear c75
      refine im (go_aload_n (pc := 218) (Y := YX6_isName) 1 dX6_isName_218 rfl rfl) ?_
      refine im (go_ldcS (pc := 219) (Y := YX6_isName) (idx := 48) (i := 6) (tx := "ended") (by decide +kernel) dX6_isName_219) ?_
      refine ivg (fun w70 r71 k72 => ?_)
      refine bpg (fun v73 he74 => ?_)
      refine im (go_callV (pc := 221) (Y := YX6_isName) (Yc := YJ5_equals) (y := yJ5_equals) (n := 1) (c0 := 8) (q := (RJ5, TJ5, 4)) w70 [rV (s6.ks 6)] [] (by rw [r71]; rfl) rfl k72 (mJ5_equals s6 he74) YOK_J5_equals rfl q674 q140 q672 q673 q716 (Nat.le_of_ble_eq_true rfl) (Nat.le_of_ble_eq_true rfl) (Nat.le_of_ble_eq_true rfl) dX6_isName_221 (st2 := [iV v73]) rfl) ?_
      clear he74
      refine flp2 (go_if_eq (pc := 224) (Y := YX6_isName) 230 dX6_isName_224 (by decide)) ?_ ?_
      · refine e1 (fun q0 => ?_)
        subst q0
        exact go_sub [0] rfl hj230
      · refine im (go_bipush (pc := 227) (Y := YX6_isName) (v := 8) dX6_isName_227 rfl) ?_
        refine im (go_istore_n (pc := 229) (Y := YX6_isName) (ls2 := [(2, iV 8), (1, rV v2), (0, rV (some this))]) dX6_isName_229 rfl (Nat.le_of_ble_eq_true rfl) rfl) ?_
        refine e1 (fun q0 => ?_)
        subst q0
        exact go_sub [0] rfl hj230
    refine ifg (fun c82 => ?_) (fun n83 => ?_)
    · refine im (go_lsw 118 (off := 97) dX6_isName_21 (by decide +kernel) (by rw [c82]; decide +kernel) (by decide)) ?_
      clear c82
      refine im (go_aload_n (pc := 118) (Y := YX6_isName) 1 dX6_isName_118 rfl rfl) ?_
      refine im (go_ldcS (pc := 119) (Y := YX6_isName) (idx := 35) (i := 13) (tx := "place") (by decide +kernel) dX6_isName_119) ?_
      refine ivg (fun w77 r78 k79 => ?_)
      refine bpg (fun v80 he81 => ?_)
      refine im (go_callV (pc := 121) (Y := YX6_isName) (Yc := YJ5_equals) (y := yJ5_equals) (n := 1) (c0 := 8) (q := (RJ5, TJ5, 4)) w77 [rV (s6.ks 13)] [] (by rw [r78]; rfl) rfl k79 (mJ5_equals s6 he81) YOK_J5_equals rfl q674 q140 q672 q673 q716 (Nat.le_of_ble_eq_true rfl) (Nat.le_of_ble_eq_true rfl) (Nat.le_of_ble_eq_true rfl) dX6_isName_121 (st2 := [iV v80]) rfl) ?_
      clear he81
      refine flp2 (go_if_eq (pc := 124) (Y := YX6_isName) 230 dX6_isName_124 (by decide)) ?_ ?_
      · refine e1 (fun q0 => ?_)
        subst q0
        exact go_sub [0] rfl hj230
      · refine im (go_iconst (pc := 127) (Y := YX6_isName) (v := 1) dX6_isName_127 rfl) ?_
        refine im (go_istore_n (pc := 128) (Y := YX6_isName) (ls2 := [(2, iV 1), (1, rV v2), (0, rV (some this))]) dX6_isName_128 rfl (Nat.le_of_ble_eq_true rfl) rfl) ?_
        refine im (go_goto (pc := 129) (Y := YX6_isName) 230 dX6_isName_129 (by decide)) ?_
        refine e1 (fun q0 => ?_)
        subst q0
        exact go_sub [0] rfl hj230
    refine ifg (fun c89 => ?_) (fun n90 => ?_)
    · refine im (go_lsw 174 (off := 153) dX6_isName_21 (by decide +kernel) (by rw [c89]; decide +kernel) (by decide)) ?_
      clear c89
      refine im (go_aload_n (pc := 174) (Y := YX6_isName) 1 dX6_isName_174 rfl rfl) ?_
      refine im (go_ldcS (pc := 175) (Y := YX6_isName) (idx := 42) (i := 15) (tx := "quarrel") (by decide +kernel) dX6_isName_175) ?_
      refine ivg (fun w84 r85 k86 => ?_)
      refine bpg (fun v87 he88 => ?_)
      refine im (go_callV (pc := 177) (Y := YX6_isName) (Yc := YJ5_equals) (y := yJ5_equals) (n := 1) (c0 := 8) (q := (RJ5, TJ5, 4)) w84 [rV (s6.ks 15)] [] (by rw [r85]; rfl) rfl k86 (mJ5_equals s6 he88) YOK_J5_equals rfl q674 q140 q672 q673 q716 (Nat.le_of_ble_eq_true rfl) (Nat.le_of_ble_eq_true rfl) (Nat.le_of_ble_eq_true rfl) dX6_isName_177 (st2 := [iV v87]) rfl) ?_
      clear he88
      refine flp2 (go_if_eq (pc := 180) (Y := YX6_isName) 230 dX6_isName_180 (by decide)) ?_ ?_
      · refine e1 (fun q0 => ?_)
        subst q0
        exact go_sub [0] rfl hj230
      · refine im (go_iconst (pc := 183) (Y := YX6_isName) (v := 5) dX6_isName_183 rfl) ?_
        refine im (go_istore_n (pc := 184) (Y := YX6_isName) (ls2 := [(2, iV 5), (1, rV v2), (0, rV (some this))]) dX6_isName_184 rfl (Nat.le_of_ble_eq_true rfl) rfl) ?_
        refine im (go_goto (pc := 185) (Y := YX6_isName) 230 dX6_isName_185 (by decide)) ?_
        refine e1 (fun q0 => ?_)
        subst q0
        exact go_sub [0] rfl hj230
    refine im (go_lsw 230 (off := 209) dX6_isName_21 (by decide +kernel) (lsw_o (List.forall_mem_cons.mpr ⟨n34, List.forall_mem_cons.mpr ⟨n41, List.forall_mem_cons.mpr ⟨n48, List.forall_mem_cons.mpr ⟨n55, List.forall_mem_cons.mpr ⟨n62, List.forall_mem_cons.mpr ⟨n69, List.forall_mem_cons.mpr ⟨n76, List.forall_mem_cons.mpr ⟨n83, List.forall_mem_cons.mpr ⟨n90, fun _ h => by cases h⟩⟩⟩⟩⟩⟩⟩⟩⟩)) (by decide)) ?_
    refine e1 (fun q0 => ?_)
    subst q0
    exact go_sub [0] rfl hj230
  · refine im (go_iconst (pc := 8) (Y := YX6_isName) (v := 0) dX6_isName_8 rfl) ?_
    refine e2 (fun q0 q1 => ?_)
    subst q0
    subst q1
    exact go_zret (pc := 9) (Y := YX6_isName) rfl rfl dX6_isName_9
abbrev YX5_find : mY := (RX5, cX5_find, 3, (Option.some .int), 3, 64, false)
theorem YOK_X5_find : YOK yX5_find 2 := ⟨⟨by decide +kernel, by decide +kernel⟩, by decide +kernel⟩
theorem sX5_find_L2_go {G : gG} {s0 : St} {vE : Int32} (s1 : St) (i0 : Option Nat) (i1 : Option Nat) : ∀ (n : Nat) (v2 : Int32) (o : Int32 ⊕ (Unit)), sX5_find_L2 s1 i0 i1 n v2 = some o → (∀ r, o = .inl r → r = vE) → (∀ (_ : Unit), o = .inr () → Go G YX5_find s0 s1 (some (iV vE)) 36 [] [] s1) → Go G YX5_find s0 s1 (some (iV vE)) 2 [(0, rV i0), (1, rV i1), (2, iV v2)] [] s1 := by
  intro n
  induction n with
  | zero => intro v2 o h hr hx; rw [sX5_find_L2] at h; cases h
  | succ n ih =>
    intro v2 o h hr hx
    revert h
    rw [sX5_find_L2]
    refine im (go_iload_n (pc := 2) (Y := YX5_find) 2 dX5_find_2 rfl rfl) ?_
    refine im (go_aload_n (pc := 3) (Y := YX5_find) 0 dX5_find_3 rfl rfl) ?_
    refine ivg (fun w3 r4 k5 => ?_)
    refine bpg (fun v6 he7 => ?_)
    refine im (go_callV (pc := 4) (Y := YX5_find) (Yc := YJ2_size) (y := yJ2_size) (n := 0) (c0 := 1) (q := (RJ2, TJ2, 3)) w3 [] [iV v2] (by rw [r4]; rfl) rfl k5 (mJ2_size s1 he7) YOK_J2_size rfl q733 q132 q731 q732 q765 (Nat.le_of_ble_eq_true rfl) (Nat.le_of_ble_eq_true rfl) (Nat.le_of_ble_eq_true rfl) dX5_find_4 (st2 := [iV v6, iV v2]) rfl) ?_
    clear he7
    refine flp2 (go_icmp_ge (pc := 7) (Y := YX5_find) 36 dX5_find_7 (by decide)) ?_ ?_
    · refine eor (fun hq => ?_)
      exact go_sub [] rfl (hx () hq)
    · refine im (go_aload_n (pc := 10) (Y := YX5_find) 0 dX5_find_10 rfl rfl) ?_
      refine im (go_iload_n (pc := 11) (Y := YX5_find) 2 dX5_find_11 rfl rfl) ?_
      refine ivg (fun w8 r9 k10 => ?_)
      refine bpg (fun v11 he12 => ?_)
      refine im (go_callV (pc := 12) (Y := YX5_find) (Yc := YJ2_get) (y := yJ2_get) (n := 1) (c0 := 1) (q := (RJ2, TJ2, 3)) w8 [iV v2] [] (by rw [r9]; rfl) rfl k10 (mJ2_get s1 he12) YOK_J2_get rfl q769 q132 q767 q768 q766 (Nat.le_of_ble_eq_true rfl) (Nat.le_of_ble_eq_true rfl) (Nat.le_of_ble_eq_true rfl) dX5_find_12 (st2 := [rV v11]) rfl) ?_
      clear he12
      refine flp (go_cast (pc := 15) (Y := YX5_find) (cs := [14, 16, 17, 18, 19, 20]) (nm := "ThirdWitness$Named") (by decide +kernel) q778 dX5_find_15) (fun h13 => ?_)
      revert h13
      refine flp (go_gR (pc := 18) (Y := YX5_find) fF1032 (by decide) q785 (Or.inl rfl) dX5_find_18) (fun v14 => ?_)
      refine im (go_aload_n (pc := 21) (Y := YX5_find) 1 dX5_find_21 rfl rfl) ?_
      refine ivg (fun w15 r16 k17 => ?_)
      refine bpg (fun v18 he19 => ?_)
      refine im (go_callV (pc := 22) (Y := YX5_find) (Yc := YJ5_equals) (y := yJ5_equals) (n := 1) (c0 := 8) (q := (RJ5, TJ5, 4)) w15 [rV i1] [] (by rw [r16]; rfl) rfl k17 (mJ5_equals s1 he19) YOK_J5_equals rfl q674 q140 q672 q673 q779 (Nat.le_of_ble_eq_true rfl) (Nat.le_of_ble_eq_true rfl) (Nat.le_of_ble_eq_true rfl) dX5_find_22 (st2 := [iV v18]) rfl) ?_
      clear he19
      refine flp2 (go_if_eq (pc := 25) (Y := YX5_find) 30 dX5_find_25 (by decide)) ?_ ?_
      · refine im (go_iinc (pc := 30) (Y := YX5_find) 2 (v := (v2 + 1)) (ls2 := [(2, iV (v2 + 1)), (0, rV i0), (1, rV i1)]) dX5_find_30 rfl rfl (Nat.le_of_ble_eq_true rfl) rfl) ?_
        refine im (go_goto (pc := 33) (Y := YX5_find) 2 dX5_find_33 (by decide)) ?_
        exact fun hq => go_sub [1, 2, 0] rfl (ih _ _ hq hr hx)
      · refine im (go_iload_n (pc := 28) (Y := YX5_find) 2 dX5_find_28 rfl rfl) ?_
        refine eor (fun hq => ?_)
        have hq2 := hr _ hq
        subst hq2
        exact go_iret (pc := 29) (Y := YX5_find) rfl dX5_find_29
theorem mX5_find {G : gG} (s0 : St) {p0 : Option Nat} {p1 : Option Nat} {vE : Int32} (h : sX5_find s0 p0 p1 = some vE) : Mt G YX5_find yX5_find [rV p0, rV p1] s0 (some (iV vE)) s0 := by
  refine go_start (ls0 := [(0, rV p0), (1, rV p1)]) (by decide +kernel) rfl (fun h => by cases h) (Nat.le_of_ble_eq_true rfl) rfl ?_
  revert h
  unfold sX5_find
  refine im (go_iconst (pc := 0) (Y := YX5_find) (v := 0) dX5_find_0 rfl) ?_
  refine im (go_istore_n (pc := 1) (Y := YX5_find) (ls2 := [(2, iV 0), (0, rV p0), (1, rV p1)]) dX5_find_1 rfl (Nat.le_of_ble_eq_true rfl) rfl) ?_
  refine lcg (fun o23 he20 h21 => ?_)
  refine go_sub [1, 2, 0] rfl (sX5_find_L2_go s0 p0 p1 FU _ _ he20 h21.1 (fun _ hq => ?_))
  have hw := h21.2 () hq
  clear he20
  revert hw
  refine im (go_iconst (pc := 36) (Y := YX5_find) (v := -1) dX5_find_36 rfl) ?_
  refine e1 (fun q0 => ?_)
  subst q0
  exact go_iret (pc := 37) (Y := YX5_find) rfl dX5_find_37
abbrev YX5_isName : mY := (RX5, cX5_isName, 2, (Option.some .boolean), 4, 86, false)
theorem YOK_X5_isName : YOK yX5_isName 1 := ⟨⟨by decide +kernel, by decide +kernel⟩, by decide +kernel⟩
theorem mX5_isName {G : gG} (s0 : St) {this : Nat} {p0 : Option Nat} {vE : Int32} (h : sX5_isName s0 this p0 = some vE) : Mt G YX5_isName yX5_isName [rV (some this), rV p0] s0 (some (iV vE)) s0 := by
  refine go_start (ls0 := [(0, rV (some this)), (1, rV p0)]) (by decide +kernel) rfl (fun h => by cases h) (Nat.le_of_ble_eq_true rfl) rfl ?_
  revert h
  unfold sX5_isName
  refine im (go_aload_n (pc := 0) (Y := YX5_isName) 0 dX5_isName_0 rfl rfl) ?_
  refine flp (go_gR (pc := 1) (Y := YX5_isName) fF1024 (by decide) q330 (Or.inl rfl) dX5_isName_1) (fun v1 => ?_)
  refine im (go_aload_n (pc := 4) (Y := YX5_isName) 1 dX5_isName_4 rfl rfl) ?_
  refine bpg (fun v2 he3 => ?_)
  refine im (go_callS (pc := 5) (Y := YX5_isName) (Yc := YX5_find) (y := yX5_find) (n := 2) [rV v1, rV p0] [] rfl (mX5_find s0 he3) YOK_X5_find rfl q764 q136 q763 q762 (Nat.le_of_ble_eq_true rfl) (Nat.le_of_ble_eq_true rfl) (Nat.le_of_ble_eq_true rfl) dX5_isName_5 (st2 := [iV v2]) rfl) ?_
  clear he3
  refine im (go_iconst (pc := 8) (Y := YX5_isName) (v := -1) dX5_isName_8 rfl) ?_
  refine flp2 (go_icmp_ne (pc := 9) (Y := YX5_isName) 36 dX5_isName_9 (by decide)) ?_ ?_
  · refine im (go_aload_n (pc := 12) (Y := YX5_isName) 0 dX5_isName_12 rfl rfl) ?_
    refine flp (go_gR (pc := 13) (Y := YX5_isName) fF1025 (by decide) q333 (Or.inl rfl) dX5_isName_13) (fun v4 => ?_)
    refine im (go_aload_n (pc := 16) (Y := YX5_isName) 1 dX5_isName_16 rfl rfl) ?_
    refine bpg (fun v5 he6 => ?_)
    refine im (go_callS (pc := 17) (Y := YX5_isName) (Yc := YX5_find) (y := yX5_find) (n := 2) [rV v4, rV p0] [] rfl (mX5_find s0 he6) YOK_X5_find rfl q764 q136 q763 q762 (Nat.le_of_ble_eq_true rfl) (Nat.le_of_ble_eq_true rfl) (Nat.le_of_ble_eq_true rfl) dX5_isName_17 (st2 := [iV v5]) rfl) ?_
    clear he6
    refine im (go_iconst (pc := 20) (Y := YX5_isName) (v := -1) dX5_isName_20 rfl) ?_
    refine flp2 (go_icmp_ne (pc := 21) (Y := YX5_isName) 36 dX5_isName_21 (by decide)) ?_ ?_
    · refine im (go_aload_n (pc := 24) (Y := YX5_isName) 0 dX5_isName_24 rfl rfl) ?_
      refine flp (go_gR (pc := 25) (Y := YX5_isName) fF1026 (by decide) q337 (Or.inl rfl) dX5_isName_25) (fun v7 => ?_)
      refine im (go_aload_n (pc := 28) (Y := YX5_isName) 1 dX5_isName_28 rfl rfl) ?_
      refine bpg (fun v8 he9 => ?_)
      refine im (go_callS (pc := 29) (Y := YX5_isName) (Yc := YX5_find) (y := yX5_find) (n := 2) [rV v7, rV p0] [] rfl (mX5_find s0 he9) YOK_X5_find rfl q764 q136 q763 q762 (Nat.le_of_ble_eq_true rfl) (Nat.le_of_ble_eq_true rfl) (Nat.le_of_ble_eq_true rfl) dX5_isName_29 (st2 := [iV v8]) rfl) ?_
      clear he9
      refine im (go_iconst (pc := 32) (Y := YX5_isName) (v := -1) dX5_isName_32 rfl) ?_
      refine flp2 (go_icmp_eq (pc := 33) (Y := YX5_isName) 40 dX5_isName_33 (by decide)) ?_ ?_
      · refine im (go_iconst (pc := 40) (Y := YX5_isName) (v := 0) dX5_isName_40 rfl) ?_
        refine e1 (fun q0 => ?_)
        subst q0
        exact go_zret (pc := 41) (Y := YX5_isName) rfl rfl dX5_isName_41
      · refine im (go_iconst (pc := 36) (Y := YX5_isName) (v := 1) dX5_isName_36 rfl) ?_
        refine im (go_goto (pc := 37) (Y := YX5_isName) 41 dX5_isName_37 (by decide)) ?_
        refine e1 (fun q0 => ?_)
        subst q0
        exact go_zret (pc := 41) (Y := YX5_isName) rfl rfl dX5_isName_41
    · refine im (go_iconst (pc := 36) (Y := YX5_isName) (v := 1) dX5_isName_36 rfl) ?_
      refine im (go_goto (pc := 37) (Y := YX5_isName) 41 dX5_isName_37 (by decide)) ?_
      refine e1 (fun q0 => ?_)
      subst q0
      exact go_zret (pc := 41) (Y := YX5_isName) rfl rfl dX5_isName_41
  · refine im (go_iconst (pc := 36) (Y := YX5_isName) (v := 1) dX5_isName_36 rfl) ?_
    refine im (go_goto (pc := 37) (Y := YX5_isName) 41 dX5_isName_37 (by decide)) ?_
    refine e1 (fun q0 => ?_)
    subst q0
    exact go_zret (pc := 41) (Y := YX5_isName) rfl rfl dX5_isName_41
abbrev YX3_fresh : mY := (RX3, cX3_fresh, 2, (Option.some (.object "java/lang/String")), 8, 179, false)
theorem YOK_X3_fresh : YOK yX3_fresh 0 := ⟨⟨by decide +kernel, by decide +kernel⟩, by decide +kernel⟩
theorem mX3_fresh {G : gG} (s0 : St) {this : Nat} {sE : St} {vE : Option Nat} (h : sX3_fresh s0 this = some (sE, vE)) : Mt G YX3_fresh yX3_fresh [rV (some this)] s0 (some (rV vE)) sE := by
  refine go_start (ls0 := [(0, rV (some this))]) (by decide +kernel) rfl (fun h => by cases h) (Nat.le_of_ble_eq_true rfl) rfl ?_
  revert h
  unfold sX3_fresh
  refine im (go_aload_n (pc := 0) (Y := YX3_fresh) 0 dX3_fresh_0 rfl rfl) ?_
  refine flp (go_gR (pc := 1) (Y := YX3_fresh) fF1022 (by decide) q592 (Or.inl rfl) dX3_fresh_1) (fun v1 => ?_)
  refine im (go_astore_n (pc := 4) (Y := YX3_fresh) (ls2 := [(1, rV v1), (0, rV (some this))]) dX3_fresh_4 rfl (Nat.le_of_ble_eq_true rfl) rfl) ?_
  refine im (go_aload_n (pc := 5) (Y := YX3_fresh) 0 dX3_fresh_5 rfl rfl) ?_
  refine ivg (fun w2 r3 k4 => ?_)
  refine bdg (fun s5 v6 he7 => ?_)
  refine im (go_callV (pc := 6) (Y := YX3_fresh) (Yc := YX6_isName) (y := yX6_isName) (n := 0) (c0 := 6) (q := (RX6, TX6, 4)) w2 [] [] (by rw [r3]; rfl) rfl k4 (mX6_isName s0 he7) YOK_X6_isName rfl q747 q137 q745 q746 q744 (Nat.le_of_ble_eq_true rfl) (Nat.le_of_ble_eq_true rfl) (Nat.le_of_ble_eq_true rfl) dX3_fresh_6 (st2 := [iV v6]) rfl) ?_
  clear he7
  refine bpg (fun s8 he29 h30 => ?_)
  have hj17 : Go G YX3_fresh s0 sE (some (rV vE)) 17 [(0, rV (some this)), (1, rV v1)] [] s8 := by
    clear he29
    revert h30
    refine im (go_aload_n (pc := 17) (Y := YX3_fresh) 0 dX3_fresh_17 rfl rfl) ?_
    refine flp (go_gR (pc := 18) (Y := YX3_fresh) fF1021 (by decide) q591 (Or.inl rfl) dX3_fresh_18) (fun v9 => ?_)
    refine im (go_aload_n (pc := 21) (Y := YX3_fresh) 1 dX3_fresh_21 rfl rfl) ?_
    refine flp (go_gR (pc := 22) (Y := YX3_fresh) fF1029 (by decide) q390 (Or.inl rfl) dX3_fresh_22) (fun v10 => ?_)
    refine ivg (fun w11 r12 k13 => ?_)
    refine bpg (fun v14 he15 => ?_)
    refine im (go_callV (pc := 25) (Y := YX3_fresh) (Yc := YX5_isName) (y := yX5_isName) (n := 1) (c0 := 5) (q := (RX5, TX5, 10)) w11 [rV v10] [] (by rw [r12]; rfl) rfl k13 (mX5_isName s8 he15) YOK_X5_isName rfl q761 q136 q759 q760 q758 (Nat.le_of_ble_eq_true rfl) (Nat.le_of_ble_eq_true rfl) (Nat.le_of_ble_eq_true rfl) dX3_fresh_25 (st2 := [iV v14]) rfl) ?_
    clear he15
    refine bpg (fun s16 he24 h25 => ?_)
    have hj36 : Go G YX3_fresh s0 sE (some (rV vE)) 36 [(0, rV (some this)), (1, rV v1)] [] s16 := by
      clear he24
      revert h25
      refine im (go_aload_n (pc := 36) (Y := YX3_fresh) 0 dX3_fresh_36 rfl rfl) ?_
      refine kdg (fun k17 => ?_)
      refine bpg (fun s18 he19 => ?_)
      refine im (go_callV (pc := 37) (Y := YX3_fresh) (Yc := YX3_on) (y := yX3_on) (n := 0) (c0 := 3) (q := (RX3, TX3, 5)) this [] [] rfl rfl k17 (mX3_on s16 he19) YOK_X3_on rfl q702 q134 q701 qs6 q699 (Nat.le_of_ble_eq_true rfl) (Nat.le_of_ble_eq_true rfl) (Nat.le_of_ble_eq_true rfl) dX3_fresh_37 (st2 := []) rfl) ?_
      clear he19
      refine im (go_aload_n (pc := 40) (Y := YX3_fresh) 1 dX3_fresh_40 rfl rfl) ?_
      refine flp (go_gR (pc := 41) (Y := YX3_fresh) fF1029 (by decide) q390 (Or.inl rfl) dX3_fresh_41) (fun v20 => ?_)
      refine e2 (fun q0 q1 => ?_)
      subst q0
      subst q1
      exact go_aret (pc := 44) (Y := YX3_fresh) rfl (Or.inl ⟨_, rfl⟩) dX3_fresh_44
    clear h25
    revert he24
    refine flp2 (go_if_eq (pc := 28) (Y := YX3_fresh) 36 dX3_fresh_28 (by decide)) ?_ ?_
    · refine e1 (fun q0 => ?_)
      subst q0
      exact go_sub [0, 1] rfl hj36
    · refine im (go_aload_n (pc := 31) (Y := YX3_fresh) 0 dX3_fresh_31 rfl rfl) ?_
      refine im (go_iconst (pc := 32) (Y := YX3_fresh) (v := 3) dX3_fresh_32 rfl) ?_
      refine kdg (fun k21 => ?_)
      refine bpg (fun s22 he23 => ?_)
      refine im (go_callV (pc := 33) (Y := YX3_fresh) (Yc := YX3_wrong) (y := yX3_wrong) (n := 1) (c0 := 3) (q := (RX3, TX3, 5)) this [iV 3] [] rfl rfl k21 (mX3_wrong s8 he23) YOK_X3_wrong rfl q694 q134 q693 qs4 q691 (Nat.le_of_ble_eq_true rfl) (Nat.le_of_ble_eq_true rfl) (Nat.le_of_ble_eq_true rfl) dX3_fresh_33 (st2 := []) rfl) ?_
      clear he23
      refine e1 (fun q0 => ?_)
      subst q0
      exact go_sub [0, 1] rfl hj36
  clear h30
  revert he29
  refine flp2 (go_if_ne (pc := 9) (Y := YX3_fresh) 17 dX3_fresh_9 (by decide)) ?_ ?_
  · refine im (go_aload_n (pc := 12) (Y := YX3_fresh) 1 dX3_fresh_12 rfl rfl) ?_
    refine im (go_iconst (pc := 13) (Y := YX3_fresh) (v := 1) dX3_fresh_13 rfl) ?_
    refine kdg (fun k26 => ?_)
    refine bpg (fun s27 he28 => ?_)
    refine im (go_callV (pc := 14) (Y := YX3_fresh) (Yc := YX3_wrong) (y := yX3_wrong) (n := 1) (c0 := 3) (q := (RX3, TX3, 5)) this [iV 1] [] rfl rfl k26 (mX3_wrong s5 he28) YOK_X3_wrong rfl q694 q134 q693 qs4 q691 (Nat.le_of_ble_eq_true rfl) (Nat.le_of_ble_eq_true rfl) (Nat.le_of_ble_eq_true rfl) dX3_fresh_14 (st2 := []) rfl) ?_
    clear he28
    refine e1 (fun q0 => ?_)
    subst q0
    exact go_sub [1, 0] rfl hj17
  · refine e1 (fun q0 => ?_)
    subst q0
    exact go_sub [1, 0] rfl hj17
abbrev YX7_init : mY := (RX7, cX7_init, 2, (Option.none : Option Jvm.ClassFile.FieldType), 1, 26, true)
theorem YOK_X7_init : YOK yX7_init 1 := ⟨⟨by decide +kernel, by decide +kernel⟩, by decide +kernel⟩
theorem mX7_init {G : gG} (s0 : St) {this : Nat} {p0 : Option Nat} {sE : St} (h : sX7_init s0 this p0 = some sE) : Mt G YX7_init yX7_init [rV (some this), rV p0] s0 none sE := by
  refine go_start (ls0 := [(0, rV (some this)), (1, rV p0)]) (by decide +kernel) rfl (fun _ => rfl) (Nat.le_of_ble_eq_true rfl) rfl ?_
  revert h
  unfold sX7_init
  refine im (go_aload_n (pc := 0) (Y := YX7_init) 0 dX7_init_0 rfl rfl) ?_
  refine im (go_objI (pc := 1) (Y := YX7_init) q783 (Nat.le_of_ble_eq_true rfl) (Nat.le_of_ble_eq_true rfl) q167 q168 dX7_init_1) ?_
  refine im (go_aload_n (pc := 4) (Y := YX7_init) 0 dX7_init_4 rfl rfl) ?_
  refine im (go_aload_n (pc := 5) (Y := YX7_init) 1 dX7_init_5 rfl rfl) ?_
  refine flp (go_pR (pc := 6) (Y := YX7_init) fF1032 (by decide) q784 (Or.inl rfl) (Or.inr ⟨rfl, rfl⟩) rfl (Or.inl ⟨_, rfl⟩) dX7_init_6) (fun s1 => ?_)
  refine e1 (fun q0 => ?_)
  subst q0
  exact go_vret (pc := 9) (Y := YX7_init) rfl dX7_init_9
abbrev YX3_place : mY := (RX3, cX3_place, 2, (Option.none : Option Jvm.ClassFile.FieldType), 9, 201, false)
theorem YOK_X3_place : YOK yX3_place 0 := ⟨⟨by decide +kernel, by decide +kernel⟩, by decide +kernel⟩
theorem mX3_place {G : gG} (s0 : St) {this : Nat} {sE : St} (h : sX3_place s0 this = some sE) : Mt G YX3_place yX3_place [rV (some this)] s0 none sE := by
  refine go_start (ls0 := [(0, rV (some this))]) (by decide +kernel) rfl (fun h => by cases h) (Nat.le_of_ble_eq_true rfl) rfl ?_
  revert h
  unfold sX3_place
  refine im (go_aload_n (pc := 0) (Y := YX3_place) 0 dX3_place_0 rfl rfl) ?_
  refine im (go_aload_n (pc := 1) (Y := YX3_place) 0 dX3_place_1 rfl rfl) ?_
  refine flp (go_gR (pc := 2) (Y := YX3_place) fF1021 (by decide) q591 (Or.inl rfl) dX3_place_2) (fun v1 => ?_)
  refine flp (go_gR (pc := 5) (Y := YX3_place) fF1024 (by decide) q331 (Or.inl rfl) dX3_place_5) (fun v2 => ?_)
  refine ivg (fun w3 r4 k5 => ?_)
  refine bpg (fun v6 he7 => ?_)
  refine im (go_callV (pc := 8) (Y := YX3_place) (Yc := YJ2_size) (y := yJ2_size) (n := 0) (c0 := 1) (q := (RJ2, TJ2, 3)) w3 [] [rV (some this)] (by rw [r4]; rfl) rfl k5 (mJ2_size s0 he7) YOK_J2_size rfl q733 q132 q731 q732 q730 (Nat.le_of_ble_eq_true rfl) (Nat.le_of_ble_eq_true rfl) (Nat.le_of_ble_eq_true rfl) dX3_place_8 (st2 := [iV v6, rV (some this)]) rfl) ?_
  clear he7
  refine im (go_bipush (pc := 11) (Y := YX3_place) (v := 6) dX3_place_11 rfl) ?_
  refine kdg (fun k8 => ?_)
  refine bpg (fun s9 he10 => ?_)
  refine im (go_callV (pc := 13) (Y := YX3_place) (Yc := YX3_begins) (y := yX3_begins) (n := 2) (c0 := 3) (q := (RX3, TX3, 5)) this [iV v6, iV 6] [] rfl rfl k8 (mX3_begins s0 he10) YOK_X3_begins rfl q737 q134 q736 qs12 q734 (Nat.le_of_ble_eq_true rfl) (Nat.le_of_ble_eq_true rfl) (Nat.le_of_ble_eq_true rfl) dX3_place_13 (st2 := []) rfl) ?_
  clear he10
  refine flp (go_nwO (pc := 16) (Y := YX3_place) (c0 := 9) (q := (RX7, TX7, 1)) rfl rfl q738 q739 q148 dX3_place_16) (fun s11 a12 => ?_)
  refine im (go_dup (pc := 19) (Y := YX3_place) dX3_place_19 rfl) ?_
  refine im (go_aload_n (pc := 20) (Y := YX3_place) 0 dX3_place_20 rfl rfl) ?_
  refine kdg (fun k13 => ?_)
  refine bdg (fun s14 v15 he16 => ?_)
  refine im (go_callV (pc := 21) (Y := YX3_place) (Yc := YX3_fresh) (y := yX3_fresh) (n := 0) (c0 := 3) (q := (RX3, TX3, 5)) this [] [rV (some a12), rV (some a12)] rfl rfl k13 (mX3_fresh s11 he16) YOK_X3_fresh rfl q743 q134 q742 qs13 q740 (Nat.le_of_ble_eq_true rfl) (Nat.le_of_ble_eq_true rfl) (Nat.le_of_ble_eq_true rfl) dX3_place_21 (st2 := [rV v15, rV (some a12), rV (some a12)]) rfl) ?_
  clear he16
  refine bpg (fun s17 he18 => ?_)
  refine im (go_callI (pc := 24) (Y := YX3_place) (Yc := YX7_init) (y := yX7_init) (n := 1) a12 [rV v15] [rV (some a12)] rfl (mX7_init s14 he18) YOK_X7_init rfl rfl q782 rfl q148 q781 q780 (Nat.le_of_ble_eq_true rfl) (Nat.le_of_ble_eq_true rfl) (Nat.le_of_ble_eq_true rfl) dX3_place_24 (st2 := [rV (some a12)]) rfl) ?_
  clear he18
  refine im (go_astore_n (pc := 27) (Y := YX3_place) (ls2 := [(1, rV (some a12)), (0, rV (some this))]) dX3_place_27 rfl (Nat.le_of_ble_eq_true rfl) rfl) ?_
  refine im (go_aload_n (pc := 28) (Y := YX3_place) 1 dX3_place_28 rfl rfl) ?_
  refine kdg (fun k19 => ?_)
  refine bpg (fun v20 he21 => ?_)
  refine im (go_callV (pc := 29) (Y := YX3_place) (Yc := YX3_isOver) (y := yX3_isOver) (n := 0) (c0 := 3) (q := (RX3, TX3, 5)) this [] [] rfl rfl k19 (mX3_isOver s17 he21) YOK_X3_isOver rfl q698 q134 q697 qs5 q695 (Nat.le_of_ble_eq_true rfl) (Nat.le_of_ble_eq_true rfl) (Nat.le_of_ble_eq_true rfl) dX3_place_29 (st2 := [iV v20]) rfl) ?_
  clear he21
  refine flp2 (go_if_ne (pc := 32) (Y := YX3_place) 47 dX3_place_32 (by decide)) ?_ ?_
  · refine im (go_aload_n (pc := 35) (Y := YX3_place) 1 dX3_place_35 rfl rfl) ?_
    refine flp (go_gR (pc := 36) (Y := YX3_place) fF1021 (by decide) q591 (Or.inl rfl) dX3_place_36) (fun v22 => ?_)
    refine flp (go_gR (pc := 39) (Y := YX3_place) fF1024 (by decide) q331 (Or.inl rfl) dX3_place_39) (fun v23 => ?_)
    refine im (go_aload_n (pc := 42) (Y := YX3_place) 0 dX3_place_42 rfl rfl) ?_
    refine ivg (fun w24 r25 k26 => ?_)
    refine bdg (fun s27 v28 he29 => ?_)
    refine im (go_callV (pc := 43) (Y := YX3_place) (Yc := YJ2_add) (y := yJ2_add) (n := 1) (c0 := 1) (q := (RJ2, TJ2, 3)) w24 [rV (some a12)] [] (by rw [r25]; rfl) rfl k26 (mJ2_add s17 he29) YOK_J2_add rfl q792 q132 q790 q791 q789 (Nat.le_of_ble_eq_true rfl) (Nat.le_of_ble_eq_true rfl) (Nat.le_of_ble_eq_true rfl) dX3_place_43 (st2 := [iV v28]) rfl) ?_
    clear he29
    refine im (go_pop (pc := 46) (Y := YX3_place) dX3_place_46 rfl) ?_
    refine e1 (fun q0 => ?_)
    subst q0
    exact go_vret (pc := 47) (Y := YX3_place) rfl dX3_place_47
  · refine e1 (fun q0 => ?_)
    subst q0
    exact go_vret (pc := 47) (Y := YX3_place) rfl dX3_place_47
abbrev YX3_known : mY := (RX3, cX3_known, 3, (Option.some .int), 5, 112, false)
theorem YOK_X3_known : YOK yX3_known 1 := ⟨⟨by decide +kernel, by decide +kernel⟩, by decide +kernel⟩
theorem mX3_known {G : gG} (s0 : St) {this : Nat} {p0 : Option Nat} {sE : St} {vE : Int32} (h : sX3_known s0 this p0 = some (sE, vE)) : Mt G YX3_known yX3_known [rV (some this), rV p0] s0 (some (iV vE)) sE := by
  refine go_start (ls0 := [(0, rV (some this)), (1, rV p0)]) (by decide +kernel) rfl (fun h => by cases h) (Nat.le_of_ble_eq_true rfl) rfl ?_
  revert h
  unfold sX3_known
  refine im (go_aload_n (pc := 0) (Y := YX3_known) 0 dX3_known_0 rfl rfl) ?_
  refine flp (go_gR (pc := 1) (Y := YX3_known) fF1022 (by decide) q592 (Or.inl rfl) dX3_known_1) (fun v1 => ?_)
  refine ivg (fun w2 r3 k4 => ?_)
  refine bdg (fun s5 v6 he7 => ?_)
  refine im (go_callV (pc := 4) (Y := YX3_known) (Yc := YX6_isName) (y := yX6_isName) (n := 0) (c0 := 6) (q := (RX6, TX6, 4)) w2 [] [] (by rw [r3]; rfl) rfl k4 (mX6_isName s0 he7) YOK_X6_isName rfl q747 q137 q745 q746 q744 (Nat.le_of_ble_eq_true rfl) (Nat.le_of_ble_eq_true rfl) (Nat.le_of_ble_eq_true rfl) dX3_known_4 (st2 := [iV v6]) rfl) ?_
  clear he7
  refine bpg (fun s8 he25 h26 => ?_)
  have hj15 : Go G YX3_known s0 sE (some (iV vE)) 15 [(0, rV (some this)), (1, rV p0)] [] s8 := by
    clear he25
    revert h26
    refine im (go_aload_n (pc := 15) (Y := YX3_known) 1 dX3_known_15 rfl rfl) ?_
    refine im (go_aload_n (pc := 16) (Y := YX3_known) 0 dX3_known_16 rfl rfl) ?_
    refine flp (go_gR (pc := 17) (Y := YX3_known) fF1022 (by decide) q592 (Or.inl rfl) dX3_known_17) (fun v9 => ?_)
    refine flp (go_gR (pc := 20) (Y := YX3_known) fF1029 (by decide) q390 (Or.inl rfl) dX3_known_20) (fun v10 => ?_)
    refine bpg (fun v11 he12 => ?_)
    refine im (go_callS (pc := 23) (Y := YX3_known) (Yc := YX5_find) (y := yX5_find) (n := 2) [rV p0, rV v10] [] rfl (mX5_find s8 he12) YOK_X5_find rfl q764 q136 q763 q852 (Nat.le_of_ble_eq_true rfl) (Nat.le_of_ble_eq_true rfl) (Nat.le_of_ble_eq_true rfl) dX3_known_23 (st2 := [iV v11]) rfl) ?_
    clear he12
    refine im (go_istore_n (pc := 26) (Y := YX3_known) (ls2 := [(2, iV v11), (0, rV (some this)), (1, rV p0)]) dX3_known_26 rfl (Nat.le_of_ble_eq_true rfl) rfl) ?_
    refine im (go_iload_n (pc := 27) (Y := YX3_known) 0 dX3_known_27 rfl rfl) ?_
    refine im (go_iconst (pc := 28) (Y := YX3_known) (v := -1) dX3_known_28 rfl) ?_
    refine bpg (fun s13 he20 h21 => ?_)
    have hj37 : Go G YX3_known s0 sE (some (iV vE)) 37 [(0, rV (some this)), (2, iV v11)] [] s13 := by
      clear he20
      revert h21
      refine im (go_aload_n (pc := 37) (Y := YX3_known) 0 dX3_known_37 rfl rfl) ?_
      refine kdg (fun k14 => ?_)
      refine bpg (fun v15 he16 => ?_)
      refine im (go_callV (pc := 38) (Y := YX3_known) (Yc := YX3_isOver) (y := yX3_isOver) (n := 0) (c0 := 3) (q := (RX3, TX3, 5)) this [] [] rfl rfl k14 (mX3_isOver s13 he16) YOK_X3_isOver rfl q698 q134 q697 qs5 q695 (Nat.le_of_ble_eq_true rfl) (Nat.le_of_ble_eq_true rfl) (Nat.le_of_ble_eq_true rfl) dX3_known_38 (st2 := [iV v15]) rfl) ?_
      clear he16
      refine flp2 (go_if_eq (pc := 41) (Y := YX3_known) 48 dX3_known_41 (by decide)) ?_ ?_
      · refine im (go_iload_n (pc := 48) (Y := YX3_known) 1 dX3_known_48 rfl rfl) ?_
        refine e2 (fun q0 q1 => ?_)
        subst q0
        subst q1
        exact go_iret (pc := 49) (Y := YX3_known) rfl dX3_known_49
      · refine im (go_iconst (pc := 44) (Y := YX3_known) (v := 0) dX3_known_44 rfl) ?_
        refine im (go_goto (pc := 45) (Y := YX3_known) 49 dX3_known_45 (by decide)) ?_
        refine e2 (fun q0 q1 => ?_)
        subst q0
        subst q1
        exact go_iret (pc := 49) (Y := YX3_known) rfl dX3_known_49
    clear h21
    revert he20
    refine flp2 (go_icmp_ne (pc := 29) (Y := YX3_known) 37 dX3_known_29 (by decide)) ?_ ?_
    · refine im (go_aload_n (pc := 32) (Y := YX3_known) 1 dX3_known_32 rfl rfl) ?_
      refine im (go_iconst (pc := 33) (Y := YX3_known) (v := 2) dX3_known_33 rfl) ?_
      refine kdg (fun k17 => ?_)
      refine bpg (fun s18 he19 => ?_)
      refine im (go_callV (pc := 34) (Y := YX3_known) (Yc := YX3_wrong) (y := yX3_wrong) (n := 1) (c0 := 3) (q := (RX3, TX3, 5)) this [iV 2] [] rfl rfl k17 (mX3_wrong s8 he19) YOK_X3_wrong rfl q694 q134 q693 qs4 q691 (Nat.le_of_ble_eq_true rfl) (Nat.le_of_ble_eq_true rfl) (Nat.le_of_ble_eq_true rfl) dX3_known_34 (st2 := []) rfl) ?_
      clear he19
      refine e1 (fun q0 => ?_)
      subst q0
      exact go_sub [1, 0] rfl hj37
    · refine e1 (fun q0 => ?_)
      subst q0
      exact go_sub [1, 0] rfl hj37
  clear h26
  revert he25
  refine flp2 (go_if_ne (pc := 7) (Y := YX3_known) 15 dX3_known_7 (by decide)) ?_ ?_
  · refine im (go_aload_n (pc := 10) (Y := YX3_known) 0 dX3_known_10 rfl rfl) ?_
    refine im (go_iconst (pc := 11) (Y := YX3_known) (v := 1) dX3_known_11 rfl) ?_
    refine kdg (fun k22 => ?_)
    refine bpg (fun s23 he24 => ?_)
    refine im (go_callV (pc := 12) (Y := YX3_known) (Yc := YX3_wrong) (y := yX3_wrong) (n := 1) (c0 := 3) (q := (RX3, TX3, 5)) this [iV 1] [] rfl rfl k22 (mX3_wrong s5 he24) YOK_X3_wrong rfl q694 q134 q693 qs4 q691 (Nat.le_of_ble_eq_true rfl) (Nat.le_of_ble_eq_true rfl) (Nat.le_of_ble_eq_true rfl) dX3_known_12 (st2 := []) rfl) ?_
    clear he24
    refine e1 (fun q0 => ?_)
    subst q0
    exact go_sub [0, 1] rfl hj15
  · refine e1 (fun q0 => ?_)
    subst q0
    exact go_sub [0, 1] rfl hj15
abbrev YX3_told : mY := (RX3, cX3_told, 3, (Option.some .int), 8, 179, false)
theorem YOK_X3_told : YOK yX3_told 1 := ⟨⟨by decide +kernel, by decide +kernel⟩, by decide +kernel⟩
theorem mX3_told {G : gG} (s0 : St) {this : Nat} {p0 : Option Nat} {sE : St} {vE : Int32} (h : sX3_told s0 this p0 = some (sE, vE)) : Mt G YX3_told yX3_told [rV (some this), rV p0] s0 (some (iV vE)) sE := by
  refine go_start (ls0 := [(0, rV (some this)), (1, rV p0)]) (by decide +kernel) rfl (fun h => by cases h) (Nat.le_of_ble_eq_true rfl) rfl ?_
  revert h
  unfold sX3_told
  refine im (go_aload_n (pc := 0) (Y := YX3_told) 0 dX3_told_0 rfl rfl) ?_
  refine im (go_aload_n (pc := 1) (Y := YX3_told) 1 dX3_told_1 rfl rfl) ?_
  refine kdg (fun k1 => ?_)
  refine bdg (fun s2 v3 he4 => ?_)
  refine im (go_callV (pc := 2) (Y := YX3_told) (Yc := YX3_known) (y := yX3_known) (n := 1) (c0 := 3) (q := (RX3, TX3, 5)) this [rV p0] [] rfl rfl k1 (mX3_known s0 he4) YOK_X3_known rfl q851 q134 q850 qs19 q848 (Nat.le_of_ble_eq_true rfl) (Nat.le_of_ble_eq_true rfl) (Nat.le_of_ble_eq_true rfl) dX3_told_2 (st2 := [iV v3]) rfl) ?_
  clear he4
  refine im (go_istore_n (pc := 5) (Y := YX3_told) (ls2 := [(2, iV v3), (0, rV (some this)), (1, rV p0)]) dX3_told_5 rfl (Nat.le_of_ble_eq_true rfl) rfl) ?_
  refine im (go_aload_n (pc := 6) (Y := YX3_told) 1 dX3_told_6 rfl rfl) ?_
  refine kdg (fun k5 => ?_)
  refine bpg (fun s6 he7 => ?_)
  refine im (go_callV (pc := 7) (Y := YX3_told) (Yc := YX3_on) (y := yX3_on) (n := 0) (c0 := 3) (q := (RX3, TX3, 5)) this [] [] rfl rfl k5 (mX3_on s2 he7) YOK_X3_on rfl q702 q134 q701 qs6 q699 (Nat.le_of_ble_eq_true rfl) (Nat.le_of_ble_eq_true rfl) (Nat.le_of_ble_eq_true rfl) dX3_told_7 (st2 := []) rfl) ?_
  clear he7
  refine im (go_iload_n (pc := 10) (Y := YX3_told) 0 dX3_told_10 rfl rfl) ?_
  refine e2 (fun q0 q1 => ?_)
  subst q0
  subst q1
  exact go_iret (pc := 11) (Y := YX3_told) rfl dX3_told_11
abbrev YX5_isSight : mY := (RX5, cX5_isSight, 4, (Option.some .boolean), 3, 64, false)
theorem YOK_X5_isSight : YOK yX5_isSight 2 := ⟨⟨by decide +kernel, by decide +kernel⟩, by decide +kernel⟩
theorem sX5_isSight_L2_go {G : gG} {s0 : St} {vE : Int32} (s1 : St) (this : Nat) (i1 : Int32) (i2 : Int32) : ∀ (n : Nat) (v2 : Int32) (o : Int32 ⊕ (Unit)), sX5_isSight_L2 s1 this i1 i2 n v2 = some o → (∀ r, o = .inl r → r = vE) → (∀ (_ : Unit), o = .inr () → Go G YX5_isSight s0 s1 (some (iV vE)) 57 [] [] s1) → Go G YX5_isSight s0 s1 (some (iV vE)) 2 [(0, rV (some this)), (1, iV i1), (2, iV i2), (3, iV v2)] [] s1 := by
  intro n
  induction n with
  | zero => intro v2 o h hr hx; rw [sX5_isSight_L2] at h; cases h
  | succ n ih =>
    intro v2 o h hr hx
    revert h
    rw [sX5_isSight_L2]
    refine im (go_iload_n (pc := 2) (Y := YX5_isSight) 3 dX5_isSight_2 rfl rfl) ?_
    refine im (go_aload_n (pc := 3) (Y := YX5_isSight) 0 dX5_isSight_3 rfl rfl) ?_
    refine flp (go_gR (pc := 4) (Y := YX5_isSight) fF1027 (by decide) q340 (Or.inl rfl) dX5_isSight_4) (fun v3 => ?_)
    refine ivg (fun w4 r5 k6 => ?_)
    refine bpg (fun v7 he8 => ?_)
    refine im (go_callV (pc := 7) (Y := YX5_isSight) (Yc := YJ2_size) (y := yJ2_size) (n := 0) (c0 := 1) (q := (RJ2, TJ2, 3)) w4 [] [iV v2] (by rw [r5]; rfl) rfl k6 (mJ2_size s1 he8) YOK_J2_size rfl q733 q132 q731 q732 q765 (Nat.le_of_ble_eq_true rfl) (Nat.le_of_ble_eq_true rfl) (Nat.le_of_ble_eq_true rfl) dX5_isSight_7 (st2 := [iV v7, iV v2]) rfl) ?_
    clear he8
    refine flp2 (go_icmp_ge (pc := 10) (Y := YX5_isSight) 57 dX5_isSight_10 (by decide)) ?_ ?_
    · refine eor (fun hq => ?_)
      exact go_sub [] rfl (hx () hq)
    · refine im (go_aload_n (pc := 13) (Y := YX5_isSight) 0 dX5_isSight_13 rfl rfl) ?_
      refine flp (go_gR (pc := 14) (Y := YX5_isSight) fF1027 (by decide) q340 (Or.inl rfl) dX5_isSight_14) (fun v9 => ?_)
      refine im (go_iload_n (pc := 17) (Y := YX5_isSight) 3 dX5_isSight_17 rfl rfl) ?_
      refine ivg (fun w10 r11 k12 => ?_)
      refine bpg (fun v13 he14 => ?_)
      refine im (go_callV (pc := 18) (Y := YX5_isSight) (Yc := YJ2_get) (y := yJ2_get) (n := 1) (c0 := 1) (q := (RJ2, TJ2, 3)) w10 [iV v2] [] (by rw [r11]; rfl) rfl k12 (mJ2_get s1 he14) YOK_J2_get rfl q769 q132 q767 q768 q766 (Nat.le_of_ble_eq_true rfl) (Nat.le_of_ble_eq_true rfl) (Nat.le_of_ble_eq_true rfl) dX5_isSight_18 (st2 := [rV v13]) rfl) ?_
      clear he14
      refine flp (go_cast (pc := 21) (Y := YX5_isSight) (cs := [15]) (nm := "ThirdWitness$Sight") (by decide +kernel) q857 dX5_isSight_21) (fun h15 => ?_)
      revert h15
      refine flp (go_gI (pc := 24) (Y := YX5_isSight) fF63 (by decide) q865 (Or.inl rfl) dX5_isSight_24) (fun v16 => ?_)
      refine im (go_iload_n (pc := 27) (Y := YX5_isSight) 1 dX5_isSight_27 rfl rfl) ?_
      refine flp2 (go_icmp_ne (pc := 28) (Y := YX5_isSight) 51 dX5_isSight_28 (by decide)) ?_ ?_
      · refine im (go_aload_n (pc := 31) (Y := YX5_isSight) 0 dX5_isSight_31 rfl rfl) ?_
        refine flp (go_gR (pc := 32) (Y := YX5_isSight) fF1027 (by decide) q340 (Or.inl rfl) dX5_isSight_32) (fun v17 => ?_)
        refine im (go_iload_n (pc := 35) (Y := YX5_isSight) 3 dX5_isSight_35 rfl rfl) ?_
        refine ivg (fun w18 r19 k20 => ?_)
        refine bpg (fun v21 he22 => ?_)
        refine im (go_callV (pc := 36) (Y := YX5_isSight) (Yc := YJ2_get) (y := yJ2_get) (n := 1) (c0 := 1) (q := (RJ2, TJ2, 3)) w18 [iV v2] [] (by rw [r19]; rfl) rfl k20 (mJ2_get s1 he22) YOK_J2_get rfl q769 q132 q767 q768 q766 (Nat.le_of_ble_eq_true rfl) (Nat.le_of_ble_eq_true rfl) (Nat.le_of_ble_eq_true rfl) dX5_isSight_36 (st2 := [rV v21]) rfl) ?_
        clear he22
        refine flp (go_cast (pc := 39) (Y := YX5_isSight) (cs := [15]) (nm := "ThirdWitness$Sight") (by decide +kernel) q857 dX5_isSight_39) (fun h23 => ?_)
        revert h23
        refine flp (go_gI (pc := 42) (Y := YX5_isSight) fF64 (by decide) q869 (Or.inl rfl) dX5_isSight_42) (fun v24 => ?_)
        refine im (go_iload_n (pc := 45) (Y := YX5_isSight) 2 dX5_isSight_45 rfl rfl) ?_
        refine flp2 (go_icmp_ne (pc := 46) (Y := YX5_isSight) 51 dX5_isSight_46 (by decide)) ?_ ?_
        · refine im (go_iconst (pc := 49) (Y := YX5_isSight) (v := 1) dX5_isSight_49 rfl) ?_
          refine eor (fun hq => ?_)
          have hq2 := hr _ hq
          subst hq2
          exact go_zret (pc := 50) (Y := YX5_isSight) rfl rfl dX5_isSight_50
        · refine im (go_iinc (pc := 51) (Y := YX5_isSight) 3 (v := (v2 + 1)) (ls2 := [(3, iV (v2 + 1)), (0, rV (some this)), (1, iV i1), (2, iV i2)]) dX5_isSight_51 rfl rfl (Nat.le_of_ble_eq_true rfl) rfl) ?_
          refine im (go_goto (pc := 54) (Y := YX5_isSight) 2 dX5_isSight_54 (by decide)) ?_
          exact fun hq => go_sub [1, 2, 3, 0] rfl (ih _ _ hq hr hx)
      · refine im (go_iinc (pc := 51) (Y := YX5_isSight) 3 (v := (v2 + 1)) (ls2 := [(3, iV (v2 + 1)), (0, rV (some this)), (1, iV i1), (2, iV i2)]) dX5_isSight_51 rfl rfl (Nat.le_of_ble_eq_true rfl) rfl) ?_
        refine im (go_goto (pc := 54) (Y := YX5_isSight) 2 dX5_isSight_54 (by decide)) ?_
        exact fun hq => go_sub [1, 2, 3, 0] rfl (ih _ _ hq hr hx)
theorem mX5_isSight {G : gG} (s0 : St) {this : Nat} {p0 : Int32} {p1 : Int32} {vE : Int32} (h : sX5_isSight s0 this p0 p1 = some vE) : Mt G YX5_isSight yX5_isSight [rV (some this), iV p0, iV p1] s0 (some (iV vE)) s0 := by
  refine go_start (ls0 := [(0, rV (some this)), (1, iV p0), (2, iV p1)]) (by decide +kernel) rfl (fun h => by cases h) (Nat.le_of_ble_eq_true rfl) rfl ?_
  revert h
  unfold sX5_isSight
  refine im (go_iconst (pc := 0) (Y := YX5_isSight) (v := 0) dX5_isSight_0 rfl) ?_
  refine im (go_istore_n (pc := 1) (Y := YX5_isSight) (ls2 := [(3, iV 0), (0, rV (some this)), (1, iV p0), (2, iV p1)]) dX5_isSight_1 rfl (Nat.le_of_ble_eq_true rfl) rfl) ?_
  refine lcg (fun o28 he25 h26 => ?_)
  refine go_sub [1, 2, 3, 0] rfl (sX5_isSight_L2_go s0 this p0 p1 FU _ _ he25 h26.1 (fun _ hq => ?_))
  have hw := h26.2 () hq
  clear he25
  revert hw
  refine im (go_iconst (pc := 57) (Y := YX5_isSight) (v := 0) dX5_isSight_57 rfl) ?_
  refine e1 (fun q0 => ?_)
  subst q0
  exact go_zret (pc := 58) (Y := YX5_isSight) rfl rfl dX5_isSight_58
abbrev YX8_init : mY := (RX8, cX8_init, 3, (Option.none : Option Jvm.ClassFile.FieldType), 1, 26, true)
theorem YOK_X8_init : YOK yX8_init 2 := ⟨⟨by decide +kernel, by decide +kernel⟩, by decide +kernel⟩
theorem mX8_init {G : gG} (s0 : St) {this : Nat} {p0 : Int32} {p1 : Int32} {sE : St} (h : sX8_init s0 this p0 p1 = some sE) : Mt G YX8_init yX8_init [rV (some this), iV p0, iV p1] s0 none sE := by
  refine go_start (ls0 := [(0, rV (some this)), (1, iV p0), (2, iV p1)]) (by decide +kernel) rfl (fun _ => rfl) (Nat.le_of_ble_eq_true rfl) rfl ?_
  revert h
  unfold sX8_init
  refine im (go_aload_n (pc := 0) (Y := YX8_init) 0 dX8_init_0 rfl rfl) ?_
  refine im (go_objI (pc := 1) (Y := YX8_init) q863 (Nat.le_of_ble_eq_true rfl) (Nat.le_of_ble_eq_true rfl) q167 q168 dX8_init_1) ?_
  refine im (go_aload_n (pc := 4) (Y := YX8_init) 0 dX8_init_4 rfl rfl) ?_
  refine im (go_iload_n (pc := 5) (Y := YX8_init) 1 dX8_init_5 rfl rfl) ?_
  refine flp (go_pI (pc := 6) (Y := YX8_init) fF63 (by decide) q864 (Or.inl rfl) (Or.inr ⟨rfl, rfl⟩) rfl rfl rfl dX8_init_6) (fun s1 => ?_)
  refine im (go_aload_n (pc := 9) (Y := YX8_init) 0 dX8_init_9 rfl rfl) ?_
  refine im (go_iload_n (pc := 10) (Y := YX8_init) 2 dX8_init_10 rfl rfl) ?_
  refine flp (go_pI (pc := 11) (Y := YX8_init) fF64 (by decide) q868 (Or.inl rfl) (Or.inr ⟨rfl, rfl⟩) rfl rfl rfl dX8_init_11) (fun s2 => ?_)
  refine e1 (fun q0 => ?_)
  subst q0
  exact go_vret (pc := 14) (Y := YX8_init) rfl dX8_init_14
abbrev YX3_sees : mY := (RX3, cX3_sees, 3, (Option.none : Option Jvm.ClassFile.FieldType), 9, 201, false)
theorem YOK_X3_sees : YOK yX3_sees 0 := ⟨⟨by decide +kernel, by decide +kernel⟩, by decide +kernel⟩
theorem mX3_sees {G : gG} (s0 : St) {this : Nat} {sE : St} (h : sX3_sees s0 this = some sE) : Mt G YX3_sees yX3_sees [rV (some this)] s0 none sE := by
  refine go_start (ls0 := [(0, rV (some this))]) (by decide +kernel) rfl (fun h => by cases h) (Nat.le_of_ble_eq_true rfl) rfl ?_
  revert h
  unfold sX3_sees
  refine im (go_aload_n (pc := 0) (Y := YX3_sees) 0 dX3_sees_0 rfl rfl) ?_
  refine im (go_aload_n (pc := 1) (Y := YX3_sees) 0 dX3_sees_1 rfl rfl) ?_
  refine flp (go_gR (pc := 2) (Y := YX3_sees) fF1021 (by decide) q591 (Or.inl rfl) dX3_sees_2) (fun v1 => ?_)
  refine flp (go_gR (pc := 5) (Y := YX3_sees) fF1027 (by decide) q342 (Or.inl rfl) dX3_sees_5) (fun v2 => ?_)
  refine ivg (fun w3 r4 k5 => ?_)
  refine bpg (fun v6 he7 => ?_)
  refine im (go_callV (pc := 8) (Y := YX3_sees) (Yc := YJ2_size) (y := yJ2_size) (n := 0) (c0 := 1) (q := (RJ2, TJ2, 3)) w3 [] [rV (some this)] (by rw [r4]; rfl) rfl k5 (mJ2_size s0 he7) YOK_J2_size rfl q733 q132 q731 q732 q730 (Nat.le_of_ble_eq_true rfl) (Nat.le_of_ble_eq_true rfl) (Nat.le_of_ble_eq_true rfl) dX3_sees_8 (st2 := [iV v6, rV (some this)]) rfl) ?_
  clear he7
  refine im (go_bipush (pc := 11) (Y := YX3_sees) (v := 8) dX3_sees_11 rfl) ?_
  refine kdg (fun k8 => ?_)
  refine bpg (fun s9 he10 => ?_)
  refine im (go_callV (pc := 13) (Y := YX3_sees) (Yc := YX3_begins) (y := yX3_begins) (n := 2) (c0 := 3) (q := (RX3, TX3, 5)) this [iV v6, iV 8] [] rfl rfl k8 (mX3_begins s0 he10) YOK_X3_begins rfl q737 q134 q736 qs12 q734 (Nat.le_of_ble_eq_true rfl) (Nat.le_of_ble_eq_true rfl) (Nat.le_of_ble_eq_true rfl) dX3_sees_13 (st2 := []) rfl) ?_
  clear he10
  refine im (go_aload_n (pc := 16) (Y := YX3_sees) 0 dX3_sees_16 rfl rfl) ?_
  refine im (go_aload_n (pc := 17) (Y := YX3_sees) 0 dX3_sees_17 rfl rfl) ?_
  refine flp (go_gR (pc := 18) (Y := YX3_sees) fF1021 (by decide) q591 (Or.inl rfl) dX3_sees_18) (fun v11 => ?_)
  refine flp (go_gR (pc := 21) (Y := YX3_sees) fF1024 (by decide) q331 (Or.inl rfl) dX3_sees_21) (fun v12 => ?_)
  refine kdg (fun k13 => ?_)
  refine bdg (fun s14 v15 he16 => ?_)
  refine im (go_callV (pc := 24) (Y := YX3_sees) (Yc := YX3_told) (y := yX3_told) (n := 1) (c0 := 3) (q := (RX3, TX3, 5)) this [rV v12] [] rfl rfl k13 (mX3_told s9 he16) YOK_X3_told rfl q847 q134 q846 qs18 q844 (Nat.le_of_ble_eq_true rfl) (Nat.le_of_ble_eq_true rfl) (Nat.le_of_ble_eq_true rfl) dX3_sees_24 (st2 := [iV v15]) rfl) ?_
  clear he16
  refine im (go_istore_n (pc := 27) (Y := YX3_sees) (ls2 := [(1, iV v15), (0, rV (some this))]) dX3_sees_27 rfl (Nat.le_of_ble_eq_true rfl) rfl) ?_
  refine im (go_aload_n (pc := 28) (Y := YX3_sees) 1 dX3_sees_28 rfl rfl) ?_
  refine im (go_aload_n (pc := 29) (Y := YX3_sees) 1 dX3_sees_29 rfl rfl) ?_
  refine flp (go_gR (pc := 30) (Y := YX3_sees) fF1021 (by decide) q591 (Or.inl rfl) dX3_sees_30) (fun v17 => ?_)
  refine flp (go_gR (pc := 33) (Y := YX3_sees) fF1024 (by decide) q331 (Or.inl rfl) dX3_sees_33) (fun v18 => ?_)
  refine kdg (fun k19 => ?_)
  refine bdg (fun s20 v21 he22 => ?_)
  refine im (go_callV (pc := 36) (Y := YX3_sees) (Yc := YX3_known) (y := yX3_known) (n := 1) (c0 := 3) (q := (RX3, TX3, 5)) this [rV v18] [] rfl rfl k19 (mX3_known s14 he22) YOK_X3_known rfl q851 q134 q850 qs19 q848 (Nat.le_of_ble_eq_true rfl) (Nat.le_of_ble_eq_true rfl) (Nat.le_of_ble_eq_true rfl) dX3_sees_36 (st2 := [iV v21]) rfl) ?_
  clear he22
  refine im (go_istore_n (pc := 39) (Y := YX3_sees) (ls2 := [(2, iV v21), (1, iV v15), (0, rV (some this))]) dX3_sees_39 rfl (Nat.le_of_ble_eq_true rfl) rfl) ?_
  refine im (go_aload_n (pc := 40) (Y := YX3_sees) 2 dX3_sees_40 rfl rfl) ?_
  refine kdg (fun k23 => ?_)
  refine bpg (fun v24 he25 => ?_)
  refine im (go_callV (pc := 41) (Y := YX3_sees) (Yc := YX3_isOver) (y := yX3_isOver) (n := 0) (c0 := 3) (q := (RX3, TX3, 5)) this [] [] rfl rfl k23 (mX3_isOver s20 he25) YOK_X3_isOver rfl q698 q134 q697 qs5 q695 (Nat.le_of_ble_eq_true rfl) (Nat.le_of_ble_eq_true rfl) (Nat.le_of_ble_eq_true rfl) dX3_sees_41 (st2 := [iV v24]) rfl) ?_
  clear he25
  refine bpg (fun s26 he57 h58 => ?_)
  have hj69 : Go G YX3_sees s0 sE none 69 [(0, rV (some this)), (1, iV v15), (2, iV v21)] [] s26 := by
    clear he57
    revert h58
    refine im (go_aload_n (pc := 69) (Y := YX3_sees) 0 dX3_sees_69 rfl rfl) ?_
    refine kdg (fun k27 => ?_)
    refine bpg (fun s28 he29 => ?_)
    refine im (go_callV (pc := 70) (Y := YX3_sees) (Yc := YX3_on) (y := yX3_on) (n := 0) (c0 := 3) (q := (RX3, TX3, 5)) this [] [] rfl rfl k27 (mX3_on s26 he29) YOK_X3_on rfl q702 q134 q701 qs6 q699 (Nat.le_of_ble_eq_true rfl) (Nat.le_of_ble_eq_true rfl) (Nat.le_of_ble_eq_true rfl) dX3_sees_70 (st2 := []) rfl) ?_
    clear he29
    refine im (go_aload_n (pc := 73) (Y := YX3_sees) 0 dX3_sees_73 rfl rfl) ?_
    refine kdg (fun k30 => ?_)
    refine bpg (fun v31 he32 => ?_)
    refine im (go_callV (pc := 74) (Y := YX3_sees) (Yc := YX3_isOver) (y := yX3_isOver) (n := 0) (c0 := 3) (q := (RX3, TX3, 5)) this [] [] rfl rfl k30 (mX3_isOver s28 he32) YOK_X3_isOver rfl q698 q134 q697 qs5 q695 (Nat.le_of_ble_eq_true rfl) (Nat.le_of_ble_eq_true rfl) (Nat.le_of_ble_eq_true rfl) dX3_sees_74 (st2 := [iV v31]) rfl) ?_
    clear he32
    refine flp2 (go_if_ne (pc := 77) (Y := YX3_sees) 100 dX3_sees_77 (by decide)) ?_ ?_
    · refine im (go_aload_n (pc := 80) (Y := YX3_sees) 0 dX3_sees_80 rfl rfl) ?_
      refine flp (go_gR (pc := 81) (Y := YX3_sees) fF1021 (by decide) q591 (Or.inl rfl) dX3_sees_81) (fun v33 => ?_)
      refine flp (go_gR (pc := 84) (Y := YX3_sees) fF1027 (by decide) q342 (Or.inl rfl) dX3_sees_84) (fun v34 => ?_)
      refine flp (go_nwO (pc := 87) (Y := YX3_sees) (c0 := 10) (q := (RX8, TX8, 2)) rfl rfl q858 q859 q150 dX3_sees_87) (fun s35 a36 => ?_)
      refine im (go_dup (pc := 90) (Y := YX3_sees) dX3_sees_90 rfl) ?_
      refine im (go_iload_n (pc := 91) (Y := YX3_sees) 1 dX3_sees_91 rfl rfl) ?_
      refine im (go_iload_n (pc := 92) (Y := YX3_sees) 2 dX3_sees_92 rfl rfl) ?_
      refine bpg (fun s37 he38 => ?_)
      refine im (go_callI (pc := 93) (Y := YX3_sees) (Yc := YX8_init) (y := yX8_init) (n := 2) a36 [iV v15, iV v21] [rV (some a36), rV v34] rfl (mX8_init s35 he38) YOK_X8_init rfl rfl q862 rfl q150 q861 q860 (Nat.le_of_ble_eq_true rfl) (Nat.le_of_ble_eq_true rfl) (Nat.le_of_ble_eq_true rfl) dX3_sees_93 (st2 := [rV (some a36), rV v34]) rfl) ?_
      clear he38
      refine ivg (fun w39 r40 k41 => ?_)
      refine bdg (fun s42 v43 he44 => ?_)
      refine im (go_callV (pc := 96) (Y := YX3_sees) (Yc := YJ2_add) (y := yJ2_add) (n := 1) (c0 := 1) (q := (RJ2, TJ2, 3)) w39 [rV (some a36)] [] (by rw [r40]; rfl) rfl k41 (mJ2_add s37 he44) YOK_J2_add rfl q792 q132 q790 q791 q789 (Nat.le_of_ble_eq_true rfl) (Nat.le_of_ble_eq_true rfl) (Nat.le_of_ble_eq_true rfl) dX3_sees_96 (st2 := [iV v43]) rfl) ?_
      clear he44
      refine im (go_pop (pc := 99) (Y := YX3_sees) dX3_sees_99 rfl) ?_
      refine e1 (fun q0 => ?_)
      subst q0
      exact go_vret (pc := 100) (Y := YX3_sees) rfl dX3_sees_100
    · refine e1 (fun q0 => ?_)
      subst q0
      exact go_vret (pc := 100) (Y := YX3_sees) rfl dX3_sees_100
  clear h58
  revert he57
  refine flp2 (go_if_ne (pc := 44) (Y := YX3_sees) 69 dX3_sees_44 (by decide)) ?_ ?_
  · refine im (go_iload_n (pc := 47) (Y := YX3_sees) 1 dX3_sees_47 rfl rfl) ?_
    refine im (go_iload_n (pc := 48) (Y := YX3_sees) 0 dX3_sees_48 rfl rfl) ?_
    refine flp2 (go_icmp_eq (pc := 49) (Y := YX3_sees) 64 dX3_sees_49 (by decide)) ?_ ?_
    · refine im (go_aload_n (pc := 64) (Y := YX3_sees) 2 dX3_sees_64 rfl rfl) ?_
      refine im (go_iconst (pc := 65) (Y := YX3_sees) (v := 3) dX3_sees_65 rfl) ?_
      refine kdg (fun k45 => ?_)
      refine bpg (fun s46 he47 => ?_)
      refine im (go_callV (pc := 66) (Y := YX3_sees) (Yc := YX3_wrong) (y := yX3_wrong) (n := 1) (c0 := 3) (q := (RX3, TX3, 5)) this [iV 3] [] rfl rfl k45 (mX3_wrong s20 he47) YOK_X3_wrong rfl q694 q134 q693 qs4 q691 (Nat.le_of_ble_eq_true rfl) (Nat.le_of_ble_eq_true rfl) (Nat.le_of_ble_eq_true rfl) dX3_sees_66 (st2 := []) rfl) ?_
      clear he47
      refine e1 (fun q0 => ?_)
      subst q0
      exact go_sub [2, 1, 0] rfl hj69
    · refine im (go_aload_n (pc := 52) (Y := YX3_sees) 2 dX3_sees_52 rfl rfl) ?_
      refine flp (go_gR (pc := 53) (Y := YX3_sees) fF1021 (by decide) q591 (Or.inl rfl) dX3_sees_53) (fun v48 => ?_)
      refine im (go_iload_n (pc := 56) (Y := YX3_sees) 1 dX3_sees_56 rfl rfl) ?_
      refine im (go_iload_n (pc := 57) (Y := YX3_sees) 0 dX3_sees_57 rfl rfl) ?_
      refine ivg (fun w49 r50 k51 => ?_)
      refine bpg (fun v52 he53 => ?_)
      refine im (go_callV (pc := 58) (Y := YX3_sees) (Yc := YX5_isSight) (y := yX5_isSight) (n := 2) (c0 := 5) (q := (RX5, TX5, 10)) w49 [iV v15, iV v21] [] (by rw [r50]; rfl) rfl k51 (mX5_isSight s20 he53) YOK_X5_isSight rfl q856 q136 q854 q855 q853 (Nat.le_of_ble_eq_true rfl) (Nat.le_of_ble_eq_true rfl) (Nat.le_of_ble_eq_true rfl) dX3_sees_58 (st2 := [iV v52]) rfl) ?_
      clear he53
      refine flp2 (go_if_eq (pc := 61) (Y := YX3_sees) 69 dX3_sees_61 (by decide)) ?_ ?_
      · refine e1 (fun q0 => ?_)
        subst q0
        exact go_sub [2, 1, 0] rfl hj69
      · refine im (go_aload_n (pc := 64) (Y := YX3_sees) 2 dX3_sees_64 rfl rfl) ?_
        refine im (go_iconst (pc := 65) (Y := YX3_sees) (v := 3) dX3_sees_65 rfl) ?_
        refine kdg (fun k54 => ?_)
        refine bpg (fun s55 he56 => ?_)
        refine im (go_callV (pc := 66) (Y := YX3_sees) (Yc := YX3_wrong) (y := yX3_wrong) (n := 1) (c0 := 3) (q := (RX3, TX3, 5)) this [iV 3] [] rfl rfl k54 (mX3_wrong s20 he56) YOK_X3_wrong rfl q694 q134 q693 qs4 q691 (Nat.le_of_ble_eq_true rfl) (Nat.le_of_ble_eq_true rfl) (Nat.le_of_ble_eq_true rfl) dX3_sees_66 (st2 := []) rfl) ?_
        clear he56
        refine e1 (fun q0 => ?_)
        subst q0
        exact go_sub [2, 1, 0] rfl hj69
  · refine e1 (fun q0 => ?_)
    subst q0
    exact go_sub [2, 1, 0] rfl hj69
abbrev YX9_init : mY := (RX9, cX9_init, 2, (Option.none : Option Jvm.ClassFile.FieldType), 2, 47, true)
theorem YOK_X9_init : YOK yX9_init 1 := ⟨⟨by decide +kernel, by decide +kernel⟩, by decide +kernel⟩
theorem mX9_init {G : gG} (s0 : St) {this : Nat} {p0 : Option Nat} {sE : St} (h : sX9_init s0 this p0 = some sE) : Mt G YX9_init yX9_init [rV (some this), rV p0] s0 none sE := by
  refine go_start (ls0 := [(0, rV (some this)), (1, rV p0)]) (by decide +kernel) rfl (fun _ => rfl) (Nat.le_of_ble_eq_true rfl) rfl ?_
  revert h
  unfold sX9_init
  refine im (go_aload_n (pc := 0) (Y := YX9_init) 0 dX9_init_0 rfl rfl) ?_
  refine im (go_aload_n (pc := 1) (Y := YX9_init) 1 dX9_init_1 rfl rfl) ?_
  refine bpg (fun s1 he2 => ?_)
  refine im (go_callI (pc := 2) (Y := YX9_init) (Yc := YX7_init) (y := yX7_init) (n := 1) this [rV p0] [] rfl (mX7_init s0 he2) YOK_X7_init rfl rfl q782 rfl q148 q781 q894 (Nat.le_of_ble_eq_true rfl) (Nat.le_of_ble_eq_true rfl) (Nat.le_of_ble_eq_true rfl) dX9_init_2 (st2 := []) rfl) ?_
  clear he2
  refine im (go_aload_n (pc := 5) (Y := YX9_init) 0 dX9_init_5 rfl rfl) ?_
  refine im (go_bipush (pc := 6) (Y := YX9_init) (v := 10) dX9_init_6 rfl) ?_
  refine flp (go_nwA1 (pc := 8) (Y := YX9_init) dX9_init_8) (fun s3 a4 => ?_)
  refine flp (go_pR (pc := 10) (Y := YX9_init) fF1033 (by decide) q895 (Or.inl rfl) (Or.inr ⟨rfl, rfl⟩) rfl (Or.inr ⟨_, rfl⟩) dX9_init_10) (fun s5 => ?_)
  refine im (go_aload_n (pc := 13) (Y := YX9_init) 0 dX9_init_13 rfl rfl) ?_
  refine im (go_bipush (pc := 14) (Y := YX9_init) (v := 10) dX9_init_14 rfl) ?_
  refine flp (go_nwA1 (pc := 16) (Y := YX9_init) dX9_init_16) (fun s6 a7 => ?_)
  refine flp (go_pR (pc := 18) (Y := YX9_init) fF1034 (by decide) q897 (Or.inl rfl) (Or.inr ⟨rfl, rfl⟩) rfl (Or.inr ⟨_, rfl⟩) dX9_init_18) (fun s8 => ?_)
  refine im (go_aload_n (pc := 21) (Y := YX9_init) 0 dX9_init_21 rfl rfl) ?_
  refine im (go_bipush (pc := 22) (Y := YX9_init) (v := -2) dX9_init_22 rfl) ?_
  refine flp (go_pI (pc := 24) (Y := YX9_init) fF69 (by decide) q907 (Or.inl rfl) (Or.inl rfl) rfl rfl rfl dX9_init_24) (fun s9 => ?_)
  refine e1 (fun q0 => ?_)
  subst q0
  exact go_vret (pc := 27) (Y := YX9_init) rfl dX9_init_27
abbrev YX10_init : mY := (RX10, cX10_init, 2, (Option.none : Option Jvm.ClassFile.FieldType), 3, 68, true)
theorem YOK_X10_init : YOK yX10_init 1 := ⟨⟨by decide +kernel, by decide +kernel⟩, by decide +kernel⟩
theorem mX10_init {G : gG} (s0 : St) {this : Nat} {p0 : Option Nat} {sE : St} (h : sX10_init s0 this p0 = some sE) : Mt G YX10_init yX10_init [rV (some this), rV p0] s0 none sE := by
  refine go_start (ls0 := [(0, rV (some this)), (1, rV p0)]) (by decide +kernel) rfl (fun _ => rfl) (Nat.le_of_ble_eq_true rfl) rfl ?_
  revert h
  unfold sX10_init
  refine im (go_aload_n (pc := 0) (Y := YX10_init) 0 dX10_init_0 rfl rfl) ?_
  refine im (go_aload_n (pc := 1) (Y := YX10_init) 1 dX10_init_1 rfl rfl) ?_
  refine bpg (fun s1 he2 => ?_)
  refine im (go_callI (pc := 2) (Y := YX10_init) (Yc := YX9_init) (y := yX9_init) (n := 1) this [rV p0] [] rfl (mX9_init s0 he2) YOK_X9_init rfl rfl q893 rfl q151 q892 q934 (Nat.le_of_ble_eq_true rfl) (Nat.le_of_ble_eq_true rfl) (Nat.le_of_ble_eq_true rfl) dX10_init_2 (st2 := []) rfl) ?_
  clear he2
  refine e1 (fun q0 => ?_)
  subst q0
  exact go_vret (pc := 5) (Y := YX10_init) rfl dX10_init_5
abbrev YX11_init : mY := (RX11, cX11_init, 2, (Option.none : Option Jvm.ClassFile.FieldType), 3, 68, true)
theorem YOK_X11_init : YOK yX11_init 1 := ⟨⟨by decide +kernel, by decide +kernel⟩, by decide +kernel⟩
theorem mX11_init {G : gG} (s0 : St) {this : Nat} {p0 : Option Nat} {sE : St} (h : sX11_init s0 this p0 = some sE) : Mt G YX11_init yX11_init [rV (some this), rV p0] s0 none sE := by
  refine go_start (ls0 := [(0, rV (some this)), (1, rV p0)]) (by decide +kernel) rfl (fun _ => rfl) (Nat.le_of_ble_eq_true rfl) rfl ?_
  revert h
  unfold sX11_init
  refine im (go_aload_n (pc := 0) (Y := YX11_init) 0 dX11_init_0 rfl rfl) ?_
  refine im (go_aload_n (pc := 1) (Y := YX11_init) 1 dX11_init_1 rfl rfl) ?_
  refine bpg (fun s1 he2 => ?_)
  refine im (go_callI (pc := 2) (Y := YX11_init) (Yc := YX9_init) (y := yX9_init) (n := 1) this [rV p0] [] rfl (mX9_init s0 he2) YOK_X9_init rfl rfl q893 rfl q151 q892 q950 (Nat.le_of_ble_eq_true rfl) (Nat.le_of_ble_eq_true rfl) (Nat.le_of_ble_eq_true rfl) dX11_init_2 (st2 := []) rfl) ?_
  clear he2
  refine e1 (fun q0 => ?_)
  subst q0
  exact go_vret (pc := 5) (Y := YX11_init) rfl dX11_init_5
abbrev YX12_init : mY := (RX12, cX12_init, 2, (Option.none : Option Jvm.ClassFile.FieldType), 3, 68, true)
theorem YOK_X12_init : YOK yX12_init 1 := ⟨⟨by decide +kernel, by decide +kernel⟩, by decide +kernel⟩
theorem mX12_init {G : gG} (s0 : St) {this : Nat} {p0 : Option Nat} {sE : St} (h : sX12_init s0 this p0 = some sE) : Mt G YX12_init yX12_init [rV (some this), rV p0] s0 none sE := by
  refine go_start (ls0 := [(0, rV (some this)), (1, rV p0)]) (by decide +kernel) rfl (fun _ => rfl) (Nat.le_of_ble_eq_true rfl) rfl ?_
  revert h
  unfold sX12_init
  refine im (go_aload_n (pc := 0) (Y := YX12_init) 0 dX12_init_0 rfl rfl) ?_
  refine im (go_aload_n (pc := 1) (Y := YX12_init) 1 dX12_init_1 rfl rfl) ?_
  refine bpg (fun s1 he2 => ?_)
  refine im (go_callI (pc := 2) (Y := YX12_init) (Yc := YX9_init) (y := yX9_init) (n := 1) this [rV p0] [] rfl (mX9_init s0 he2) YOK_X9_init rfl rfl q893 rfl q151 q892 q966 (Nat.le_of_ble_eq_true rfl) (Nat.le_of_ble_eq_true rfl) (Nat.le_of_ble_eq_true rfl) dX12_init_2 (st2 := []) rfl) ?_
  clear he2
  refine e1 (fun q0 => ?_)
  subst q0
  exact go_vret (pc := 5) (Y := YX12_init) rfl dX12_init_5
abbrev YX3_kind : mY := (RX3, cX3_kind, 4, (Option.some (.object "ThirdWitness$Person")), 4, 90, false)
theorem YOK_X3_kind : YOK yX3_kind 1 := ⟨⟨by decide +kernel, by decide +kernel⟩, by decide +kernel⟩
theorem mX3_kind {G : gG} (s0 : St) {this : Nat} {p0 : Option Nat} {sE : St} {vE : Option Nat} (h : sX3_kind s0 this p0 = some (sE, vE)) : Mt G YX3_kind yX3_kind [rV (some this), rV p0] s0 (some (rV vE)) sE := by
  refine go_start (ls0 := [(0, rV (some this)), (1, rV p0)]) (by decide +kernel) rfl (fun h => by cases h) (Nat.le_of_ble_eq_true rfl) rfl ?_
  revert h
  unfold sX3_kind
  refine im (go_aload_n (pc := 0) (Y := YX3_kind) 0 dX3_kind_0 rfl rfl) ?_
  refine flp (go_gR (pc := 1) (Y := YX3_kind) fF1022 (by decide) q592 (Or.inl rfl) dX3_kind_1) (fun v1 => ?_)
  refine flp (go_gI (pc := 4) (Y := YX3_kind) fF54 (by decide) q384 (Or.inl rfl) dX3_kind_4) (fun v2 => ?_)
  refine im (go_iconst (pc := 7) (Y := YX3_kind) (v := 2) dX3_kind_7 rfl) ?_
  refine bpg (fun v3 he74 h75 => ?_)
  have hj23 : Go G YX3_kind s0 sE (some (rV vE)) 23 [(0, rV (some this)), (1, rV p0)] [rV v3] s0 := by
    clear he74
    revert h75
    refine im (go_astore_n (pc := 23) (Y := YX3_kind) (ls2 := [(2, rV v3), (0, rV (some this)), (1, rV p0)]) dX3_kind_23 rfl (Nat.le_of_ble_eq_true rfl) rfl) ?_
    refine im (go_iconst (pc := 24) (Y := YX3_kind) (v := -1) dX3_kind_24 rfl) ?_
    refine im (go_istore_n (pc := 25) (Y := YX3_kind) (ls2 := [(3, iV (-1)), (2, rV v3), (0, rV (some this)), (1, rV p0)]) dX3_kind_25 rfl (Nat.le_of_ble_eq_true rfl) rfl) ?_
    refine im (go_aload_n (pc := 26) (Y := YX3_kind) 1 dX3_kind_26 rfl rfl) ?_
    refine ivg (fun w4 r5 k6 => ?_)
    refine bdg (fun s7 v8 he9 => ?_)
    refine im (go_callV (pc := 27) (Y := YX3_kind) (Yc := YJ5_hashCode) (y := yJ5_hashCode) (n := 0) (c0 := 8) (q := (RJ5, TJ5, 4)) w4 [] [] (by rw [r5]; rfl) rfl k6 (mJ5_hashCode s0 he9) YOK_J5_hashCode rfl q620 q140 q618 q619 q617 (Nat.le_of_ble_eq_true rfl) (Nat.le_of_ble_eq_true rfl) (Nat.le_of_ble_eq_true rfl) dX3_kind_27 (st2 := [iV v8]) rfl) ?_
    clear he9
    refine bpg (fun v10 he70 h71 => ?_)
    have hj125 : Go G YX3_kind s0 sE (some (rV vE)) 125 [(0, rV (some this)), (1, rV p0), (3, iV v10)] [] s7 := by
      clear he70
      revert h71
      refine im (go_iload_n (pc := 125) (Y := YX3_kind) 2 dX3_kind_125 rfl rfl) ?_
      refine ifg (fun c15 => ?_) (fun n16 => ?_)
      · refine im (go_tIn (pc := 126) (Y := YX3_kind) 156 dX3_kind_126 (by rw [c15]; decide) (by rw [c15]; decide) (off := 30) (by rw [c15]; rfl) (by decide)) ?_
        clear c15
        refine flp (go_nwO (pc := 156) (Y := YX3_kind) (c0 := 11) (q := (RX9, TX9, 9)) rfl rfl q889 q890 q151 dX3_kind_156) (fun s11 a12 => ?_)
        refine im (go_dup (pc := 159) (Y := YX3_kind) dX3_kind_159 rfl) ?_
        refine im (go_aload_n (pc := 160) (Y := YX3_kind) 1 dX3_kind_160 rfl rfl) ?_
        refine bpg (fun s13 he14 => ?_)
        refine im (go_callI (pc := 161) (Y := YX3_kind) (Yc := YX9_init) (y := yX9_init) (n := 1) a12 [rV p0] [rV (some a12)] rfl (mX9_init s11 he14) YOK_X9_init rfl rfl q893 rfl q151 q892 q891 (Nat.le_of_ble_eq_true rfl) (Nat.le_of_ble_eq_true rfl) (Nat.le_of_ble_eq_true rfl) dX3_kind_161 (st2 := [rV (some a12)]) rfl) ?_
        clear he14
        refine e2 (fun q0 q1 => ?_)
        subst q0
        subst q1
        exact go_aret (pc := 164) (Y := YX3_kind) rfl (Or.inl ⟨_, rfl⟩) dX3_kind_164
      refine ifg (fun c21 => ?_) (fun n22 => ?_)
      · refine im (go_tIn 165 dX3_kind_126 (by rw [c21]; decide) (by rw [c21]; decide) (off := 39) (by rw [c21]; rfl) (by decide)) ?_
        clear c21
        refine flp (go_nwO (pc := 165) (Y := YX3_kind) (c0 := 12) (q := (RX10, TX10, 9)) rfl rfl q929 q930 q152 dX3_kind_165) (fun s17 a18 => ?_)
        refine im (go_dup (pc := 168) (Y := YX3_kind) dX3_kind_168 rfl) ?_
        refine im (go_aload_n (pc := 169) (Y := YX3_kind) 1 dX3_kind_169 rfl rfl) ?_
        refine bpg (fun s19 he20 => ?_)
        refine im (go_callI (pc := 170) (Y := YX3_kind) (Yc := YX10_init) (y := yX10_init) (n := 1) a18 [rV p0] [rV (some a18)] rfl (mX10_init s17 he20) YOK_X10_init rfl rfl q933 rfl q152 q932 q931 (Nat.le_of_ble_eq_true rfl) (Nat.le_of_ble_eq_true rfl) (Nat.le_of_ble_eq_true rfl) dX3_kind_170 (st2 := [rV (some a18)]) rfl) ?_
        clear he20
        refine e2 (fun q0 q1 => ?_)
        subst q0
        subst q1
        exact go_aret (pc := 173) (Y := YX3_kind) rfl (Or.inl ⟨_, rfl⟩) dX3_kind_173
      refine ifg (fun c27 => ?_) (fun n28 => ?_)
      · refine im (go_tIn 174 dX3_kind_126 (by rw [c27]; decide) (by rw [c27]; decide) (off := 48) (by rw [c27]; rfl) (by decide)) ?_
        clear c27
        refine flp (go_nwO (pc := 174) (Y := YX3_kind) (c0 := 13) (q := (RX11, TX11, 9)) rfl rfl q945 q946 q153 dX3_kind_174) (fun s23 a24 => ?_)
        refine im (go_dup (pc := 177) (Y := YX3_kind) dX3_kind_177 rfl) ?_
        refine im (go_aload_n (pc := 178) (Y := YX3_kind) 1 dX3_kind_178 rfl rfl) ?_
        refine bpg (fun s25 he26 => ?_)
        refine im (go_callI (pc := 179) (Y := YX3_kind) (Yc := YX11_init) (y := yX11_init) (n := 1) a24 [rV p0] [rV (some a24)] rfl (mX11_init s23 he26) YOK_X11_init rfl rfl q949 rfl q153 q948 q947 (Nat.le_of_ble_eq_true rfl) (Nat.le_of_ble_eq_true rfl) (Nat.le_of_ble_eq_true rfl) dX3_kind_179 (st2 := [rV (some a24)]) rfl) ?_
        clear he26
        refine e2 (fun q0 q1 => ?_)
        subst q0
        subst q1
        exact go_aret (pc := 182) (Y := YX3_kind) rfl (Or.inl ⟨_, rfl⟩) dX3_kind_182
      refine ifg (fun c33 => ?_) (fun n34 => ?_)
      · refine im (go_tIn 183 dX3_kind_126 (by rw [c33]; decide) (by rw [c33]; decide) (off := 57) (by rw [c33]; rfl) (by decide)) ?_
        clear c33
        refine flp (go_nwO (pc := 183) (Y := YX3_kind) (c0 := 14) (q := (RX12, TX12, 9)) rfl rfl q961 q962 q154 dX3_kind_183) (fun s29 a30 => ?_)
        refine im (go_dup (pc := 186) (Y := YX3_kind) dX3_kind_186 rfl) ?_
        refine im (go_aload_n (pc := 187) (Y := YX3_kind) 1 dX3_kind_187 rfl rfl) ?_
        refine bpg (fun s31 he32 => ?_)
        refine im (go_callI (pc := 188) (Y := YX3_kind) (Yc := YX12_init) (y := yX12_init) (n := 1) a30 [rV p0] [rV (some a30)] rfl (mX12_init s29 he32) YOK_X12_init rfl rfl q965 rfl q154 q964 q963 (Nat.le_of_ble_eq_true rfl) (Nat.le_of_ble_eq_true rfl) (Nat.le_of_ble_eq_true rfl) dX3_kind_188 (st2 := [rV (some a30)]) rfl) ?_
        clear he32
        refine e2 (fun q0 q1 => ?_)
        subst q0
        subst q1
        exact go_aret (pc := 191) (Y := YX3_kind) rfl (Or.inl ⟨_, rfl⟩) dX3_kind_191
      have ht : ∀ i : Nat, i < 4 → ¬ v10 = Int32.ofInt (0 + i) := by
        intro i hi
        rcases (show i = 0 ∨ i = 1 ∨ i = 2 ∨ i = 3 by omega) with rfl | rfl | rfl | rfl
        · exact n16
        · exact n22
        · exact n28
        · exact n34
      refine im (go_tOut 192 4 dX3_kind_126 (by decide) ht (by decide)) ?_
      clear ht
      refine im (go_aload_n (pc := 192) (Y := YX3_kind) 0 dX3_kind_192 rfl rfl) ?_
      refine im (go_iconst (pc := 193) (Y := YX3_kind) (v := 1) dX3_kind_193 rfl) ?_
      refine kdg (fun k35 => ?_)
      refine bpg (fun s36 he37 => ?_)
      refine im (go_callV (pc := 194) (Y := YX3_kind) (Yc := YX3_wrong) (y := yX3_wrong) (n := 1) (c0 := 3) (q := (RX3, TX3, 5)) this [iV 1] [] rfl rfl k35 (mX3_wrong s7 he37) YOK_X3_wrong rfl q694 q134 q693 qs4 q691 (Nat.le_of_ble_eq_true rfl) (Nat.le_of_ble_eq_true rfl) (Nat.le_of_ble_eq_true rfl) dX3_kind_194 (st2 := []) rfl) ?_
      clear he37
      refine flp (go_nwO (pc := 197) (Y := YX3_kind) (c0 := 11) (q := (RX9, TX9, 9)) rfl rfl q889 q890 q151 dX3_kind_197) (fun s38 a39 => ?_)
      refine im (go_dup (pc := 200) (Y := YX3_kind) dX3_kind_200 rfl) ?_
      refine im (go_aload_n (pc := 201) (Y := YX3_kind) 1 dX3_kind_201 rfl rfl) ?_
      refine bpg (fun s40 he41 => ?_)
      refine im (go_callI (pc := 202) (Y := YX3_kind) (Yc := YX9_init) (y := yX9_init) (n := 1) a39 [rV p0] [rV (some a39)] rfl (mX9_init s38 he41) YOK_X9_init rfl rfl q893 rfl q151 q892 q891 (Nat.le_of_ble_eq_true rfl) (Nat.le_of_ble_eq_true rfl) (Nat.le_of_ble_eq_true rfl) dX3_kind_202 (st2 := [rV (some a39)]) rfl) ?_
      clear he41
      refine e2 (fun q0 q1 => ?_)
      subst q0
      subst q1
      exact go_aret (pc := 205) (Y := YX3_kind) rfl (Or.inl ⟨_, rfl⟩) dX3_kind_205
    clear h71
    revert he70
    refine ifg (fun c47 => ?_) (fun n48 => ?_)
    · refine im (go_lsw (pc := 30) (Y := YX3_kind) 114 (off := 84) dX3_kind_30 (by decide +kernel) (by rw [c47]; decide +kernel) (by decide)) ?_
      clear c47
      refine im (go_aload_n (pc := 114) (Y := YX3_kind) 1 dX3_kind_114 rfl rfl) ?_
      refine im (go_ldcS (pc := 115) (Y := YX3_kind) (idx := 203) (i := 2) (tx := "babe") (by decide +kernel) dX3_kind_115) ?_
      refine ivg (fun w42 r43 k44 => ?_)
      refine bpg (fun v45 he46 => ?_)
      refine im (go_callV (pc := 117) (Y := YX3_kind) (Yc := YJ5_equals) (y := yJ5_equals) (n := 1) (c0 := 8) (q := (RJ5, TJ5, 4)) w42 [rV (s7.ks 2)] [] (by rw [r43]; rfl) rfl k44 (mJ5_equals s7 he46) YOK_J5_equals rfl q674 q140 q672 q673 q671 (Nat.le_of_ble_eq_true rfl) (Nat.le_of_ble_eq_true rfl) (Nat.le_of_ble_eq_true rfl) dX3_kind_117 (st2 := [iV v45]) rfl) ?_
      clear he46
      refine flp2 (go_if_eq (pc := 120) (Y := YX3_kind) 125 dX3_kind_120 (by decide)) ?_ ?_
      · refine e1 (fun q0 => ?_)
        subst q0
        exact go_sub [2, 3, 0] rfl hj125
      · refine im (go_iconst (pc := 123) (Y := YX3_kind) (v := 3) dX3_kind_123 rfl) ?_
        refine im (go_istore_n (pc := 124) (Y := YX3_kind) (ls2 := [(3, iV 3), (2, rV v3), (0, rV (some this)), (1, rV p0)]) dX3_kind_124 rfl (Nat.le_of_ble_eq_true rfl) rfl) ?_
        refine e1 (fun q0 => ?_)
        subst q0
        exact go_sub [2, 3, 0] rfl hj125
    refine ifg (fun c54 => ?_) (fun n55 => ?_)
    · refine im (go_lsw 86 (off := 56) dX3_kind_30 (by decide +kernel) (by rw [c54]; decide +kernel) (by decide)) ?_
      clear c54
      refine im (go_aload_n (pc := 86) (Y := YX3_kind) 1 dX3_kind_86 rfl rfl) ?_
      refine im (go_ldcS (pc := 87) (Y := YX3_kind) (idx := 199) (i := 5) (tx := "deaf") (by decide +kernel) dX3_kind_87) ?_
      refine ivg (fun w49 r50 k51 => ?_)
      refine bpg (fun v52 he53 => ?_)
      refine im (go_callV (pc := 89) (Y := YX3_kind) (Yc := YJ5_equals) (y := yJ5_equals) (n := 1) (c0 := 8) (q := (RJ5, TJ5, 4)) w49 [rV (s7.ks 5)] [] (by rw [r50]; rfl) rfl k51 (mJ5_equals s7 he53) YOK_J5_equals rfl q674 q140 q672 q673 q671 (Nat.le_of_ble_eq_true rfl) (Nat.le_of_ble_eq_true rfl) (Nat.le_of_ble_eq_true rfl) dX3_kind_89 (st2 := [iV v52]) rfl) ?_
      clear he53
      refine flp2 (go_if_eq (pc := 92) (Y := YX3_kind) 125 dX3_kind_92 (by decide)) ?_ ?_
      · refine e1 (fun q0 => ?_)
        subst q0
        exact go_sub [2, 3, 0] rfl hj125
      · refine im (go_iconst (pc := 95) (Y := YX3_kind) (v := 1) dX3_kind_95 rfl) ?_
        refine im (go_istore_n (pc := 96) (Y := YX3_kind) (ls2 := [(3, iV 1), (2, rV v3), (0, rV (some this)), (1, rV p0)]) dX3_kind_96 rfl (Nat.le_of_ble_eq_true rfl) rfl) ?_
        refine im (go_goto (pc := 97) (Y := YX3_kind) 125 dX3_kind_97 (by decide)) ?_
        refine e1 (fun q0 => ?_)
        subst q0
        exact go_sub [2, 3, 0] rfl hj125
    refine ifg (fun c61 => ?_) (fun n62 => ?_)
    · refine im (go_lsw 100 (off := 70) dX3_kind_30 (by decide +kernel) (by rw [c61]; decide +kernel) (by decide)) ?_
      clear c61
      refine im (go_aload_n (pc := 100) (Y := YX3_kind) 1 dX3_kind_100 rfl rfl) ?_
      refine im (go_ldcS (pc := 101) (Y := YX3_kind) (idx := 201) (i := 3) (tx := "blind") (by decide +kernel) dX3_kind_101) ?_
      refine ivg (fun w56 r57 k58 => ?_)
      refine bpg (fun v59 he60 => ?_)
      refine im (go_callV (pc := 103) (Y := YX3_kind) (Yc := YJ5_equals) (y := yJ5_equals) (n := 1) (c0 := 8) (q := (RJ5, TJ5, 4)) w56 [rV (s7.ks 3)] [] (by rw [r57]; rfl) rfl k58 (mJ5_equals s7 he60) YOK_J5_equals rfl q674 q140 q672 q673 q671 (Nat.le_of_ble_eq_true rfl) (Nat.le_of_ble_eq_true rfl) (Nat.le_of_ble_eq_true rfl) dX3_kind_103 (st2 := [iV v59]) rfl) ?_
      clear he60
      refine flp2 (go_if_eq (pc := 106) (Y := YX3_kind) 125 dX3_kind_106 (by decide)) ?_ ?_
      · refine e1 (fun q0 => ?_)
        subst q0
        exact go_sub [2, 3, 0] rfl hj125
      · refine im (go_iconst (pc := 109) (Y := YX3_kind) (v := 2) dX3_kind_109 rfl) ?_
        refine im (go_istore_n (pc := 110) (Y := YX3_kind) (ls2 := [(3, iV 2), (2, rV v3), (0, rV (some this)), (1, rV p0)]) dX3_kind_110 rfl (Nat.le_of_ble_eq_true rfl) rfl) ?_
        refine im (go_goto (pc := 111) (Y := YX3_kind) 125 dX3_kind_111 (by decide)) ?_
        refine e1 (fun q0 => ?_)
        subst q0
        exact go_sub [2, 3, 0] rfl hj125
    refine ifg (fun c68 => ?_) (fun n69 => ?_)
    · refine im (go_lsw 72 (off := 42) dX3_kind_30 (by decide +kernel) (by rw [c68]; decide +kernel) (by decide)) ?_
      clear c68
      refine im (go_aload_n (pc := 72) (Y := YX3_kind) 1 dX3_kind_72 rfl rfl) ?_
      refine im (go_ldcS (pc := 73) (Y := YX3_kind) (idx := 197) (i := 14) (tx := "plain") (by decide +kernel) dX3_kind_73) ?_
      refine ivg (fun w63 r64 k65 => ?_)
      refine bpg (fun v66 he67 => ?_)
      refine im (go_callV (pc := 75) (Y := YX3_kind) (Yc := YJ5_equals) (y := yJ5_equals) (n := 1) (c0 := 8) (q := (RJ5, TJ5, 4)) w63 [rV (s7.ks 14)] [] (by rw [r64]; rfl) rfl k65 (mJ5_equals s7 he67) YOK_J5_equals rfl q674 q140 q672 q673 q671 (Nat.le_of_ble_eq_true rfl) (Nat.le_of_ble_eq_true rfl) (Nat.le_of_ble_eq_true rfl) dX3_kind_75 (st2 := [iV v66]) rfl) ?_
      clear he67
      refine flp2 (go_if_eq (pc := 78) (Y := YX3_kind) 125 dX3_kind_78 (by decide)) ?_ ?_
      · refine e1 (fun q0 => ?_)
        subst q0
        exact go_sub [2, 3, 0] rfl hj125
      · refine im (go_iconst (pc := 81) (Y := YX3_kind) (v := 0) dX3_kind_81 rfl) ?_
        refine im (go_istore_n (pc := 82) (Y := YX3_kind) (ls2 := [(3, iV 0), (2, rV v3), (0, rV (some this)), (1, rV p0)]) dX3_kind_82 rfl (Nat.le_of_ble_eq_true rfl) rfl) ?_
        refine im (go_goto (pc := 83) (Y := YX3_kind) 125 dX3_kind_83 (by decide)) ?_
        refine e1 (fun q0 => ?_)
        subst q0
        exact go_sub [2, 3, 0] rfl hj125
    refine im (go_lsw 125 (off := 95) dX3_kind_30 (by decide +kernel) (lsw_o (List.forall_mem_cons.mpr ⟨n48, List.forall_mem_cons.mpr ⟨n55, List.forall_mem_cons.mpr ⟨n62, List.forall_mem_cons.mpr ⟨n69, fun _ h => by cases h⟩⟩⟩⟩)) (by decide)) ?_
    refine e1 (fun q0 => ?_)
    subst q0
    exact go_sub [2, 3, 0] rfl hj125
  clear h75
  revert he74
  refine flp2 (go_icmp_ne (pc := 8) (Y := YX3_kind) 21 dX3_kind_8 (by decide)) ?_ ?_
  · refine im (go_aload_n (pc := 11) (Y := YX3_kind) 0 dX3_kind_11 rfl rfl) ?_
    refine flp (go_gR (pc := 12) (Y := YX3_kind) fF1022 (by decide) q592 (Or.inl rfl) dX3_kind_12) (fun v72 => ?_)
    refine flp (go_gR (pc := 15) (Y := YX3_kind) fF1029 (by decide) q390 (Or.inl rfl) dX3_kind_15) (fun v73 => ?_)
    refine im (go_goto (pc := 18) (Y := YX3_kind) 23 dX3_kind_18 (by decide)) ?_
    refine e1 (fun q0 => ?_)
    subst q0
    exact go_sub [0, 1] rfl hj23
  · refine im (go_ldcS (pc := 21) (Y := YX3_kind) (idx := 113) (i := 0) (tx := "") (by decide +kernel) dX3_kind_21) ?_
    refine e1 (fun q0 => ?_)
    subst q0
    exact go_sub [0, 1] rfl hj23
abbrev YX3_person : mY := (RX3, cX3_person, 2, (Option.none : Option Jvm.ClassFile.FieldType), 10, 225, false)
theorem YOK_X3_person : YOK yX3_person 0 := ⟨⟨by decide +kernel, by decide +kernel⟩, by decide +kernel⟩
theorem mX3_person {G : gG} (s0 : St) {this : Nat} {sE : St} (h : sX3_person s0 this = some sE) : Mt G YX3_person yX3_person [rV (some this)] s0 none sE := by
  refine go_start (ls0 := [(0, rV (some this))]) (by decide +kernel) rfl (fun h => by cases h) (Nat.le_of_ble_eq_true rfl) rfl ?_
  revert h
  unfold sX3_person
  refine im (go_aload_n (pc := 0) (Y := YX3_person) 0 dX3_person_0 rfl rfl) ?_
  refine im (go_aload_n (pc := 1) (Y := YX3_person) 0 dX3_person_1 rfl rfl) ?_
  refine flp (go_gR (pc := 2) (Y := YX3_person) fF1021 (by decide) q591 (Or.inl rfl) dX3_person_2) (fun v1 => ?_)
  refine flp (go_gR (pc := 5) (Y := YX3_person) fF1025 (by decide) q336 (Or.inl rfl) dX3_person_5) (fun v2 => ?_)
  refine ivg (fun w3 r4 k5 => ?_)
  refine bpg (fun v6 he7 => ?_)
  refine im (go_callV (pc := 8) (Y := YX3_person) (Yc := YJ2_size) (y := yJ2_size) (n := 0) (c0 := 1) (q := (RJ2, TJ2, 3)) w3 [] [rV (some this)] (by rw [r4]; rfl) rfl k5 (mJ2_size s0 he7) YOK_J2_size rfl q733 q132 q731 q732 q730 (Nat.le_of_ble_eq_true rfl) (Nat.le_of_ble_eq_true rfl) (Nat.le_of_ble_eq_true rfl) dX3_person_8 (st2 := [iV v6, rV (some this)]) rfl) ?_
  clear he7
  refine im (go_bipush (pc := 11) (Y := YX3_person) (v := 6) dX3_person_11 rfl) ?_
  refine kdg (fun k8 => ?_)
  refine bpg (fun s9 he10 => ?_)
  refine im (go_callV (pc := 13) (Y := YX3_person) (Yc := YX3_begins) (y := yX3_begins) (n := 2) (c0 := 3) (q := (RX3, TX3, 5)) this [iV v6, iV 6] [] rfl rfl k8 (mX3_begins s0 he10) YOK_X3_begins rfl q737 q134 q736 qs12 q734 (Nat.le_of_ble_eq_true rfl) (Nat.le_of_ble_eq_true rfl) (Nat.le_of_ble_eq_true rfl) dX3_person_13 (st2 := []) rfl) ?_
  clear he10
  refine im (go_aload_n (pc := 16) (Y := YX3_person) 0 dX3_person_16 rfl rfl) ?_
  refine im (go_aload_n (pc := 17) (Y := YX3_person) 0 dX3_person_17 rfl rfl) ?_
  refine kdg (fun k11 => ?_)
  refine bdg (fun s12 v13 he14 => ?_)
  refine im (go_callV (pc := 18) (Y := YX3_person) (Yc := YX3_fresh) (y := yX3_fresh) (n := 0) (c0 := 3) (q := (RX3, TX3, 5)) this [] [rV (some this)] rfl rfl k11 (mX3_fresh s9 he14) YOK_X3_fresh rfl q743 q134 q742 qs13 q740 (Nat.le_of_ble_eq_true rfl) (Nat.le_of_ble_eq_true rfl) (Nat.le_of_ble_eq_true rfl) dX3_person_18 (st2 := [rV v13, rV (some this)]) rfl) ?_
  clear he14
  refine kdg (fun k15 => ?_)
  refine bdg (fun s16 v17 he18 => ?_)
  refine im (go_callV (pc := 21) (Y := YX3_person) (Yc := YX3_kind) (y := yX3_kind) (n := 1) (c0 := 3) (q := (RX3, TX3, 5)) this [rV v13] [] rfl rfl k15 (mX3_kind s12 he18) YOK_X3_kind rfl q884 q134 q883 qs21 q881 (Nat.le_of_ble_eq_true rfl) (Nat.le_of_ble_eq_true rfl) (Nat.le_of_ble_eq_true rfl) dX3_person_21 (st2 := [rV v17]) rfl) ?_
  clear he18
  refine im (go_astore_n (pc := 24) (Y := YX3_person) (ls2 := [(1, rV v17), (0, rV (some this))]) dX3_person_24 rfl (Nat.le_of_ble_eq_true rfl) rfl) ?_
  refine im (go_aload_n (pc := 25) (Y := YX3_person) 1 dX3_person_25 rfl rfl) ?_
  refine kdg (fun k19 => ?_)
  refine bpg (fun s20 he21 => ?_)
  refine im (go_callV (pc := 26) (Y := YX3_person) (Yc := YX3_on) (y := yX3_on) (n := 0) (c0 := 3) (q := (RX3, TX3, 5)) this [] [] rfl rfl k19 (mX3_on s16 he21) YOK_X3_on rfl q702 q134 q701 qs6 q699 (Nat.le_of_ble_eq_true rfl) (Nat.le_of_ble_eq_true rfl) (Nat.le_of_ble_eq_true rfl) dX3_person_26 (st2 := []) rfl) ?_
  clear he21
  refine im (go_aload_n (pc := 29) (Y := YX3_person) 1 dX3_person_29 rfl rfl) ?_
  refine im (go_ldcS (pc := 30) (Y := YX3_person) (idx := 224) (i := 1) (tx := "at") (by decide +kernel) dX3_person_30) ?_
  refine kdg (fun k22 => ?_)
  refine bpg (fun s23 he24 => ?_)
  refine im (go_callV (pc := 32) (Y := YX3_person) (Yc := YX3_needs) (y := yX3_needs) (n := 1) (c0 := 3) (q := (RX3, TX3, 5)) this [rV (s20.ks 1)] [] rfl rfl k22 (mX3_needs s20 he24) YOK_X3_needs rfl q711 q134 q710 qs8 q708 (Nat.le_of_ble_eq_true rfl) (Nat.le_of_ble_eq_true rfl) (Nat.le_of_ble_eq_true rfl) dX3_person_32 (st2 := []) rfl) ?_
  clear he24
  refine im (go_aload_n (pc := 35) (Y := YX3_person) 0 dX3_person_35 rfl rfl) ?_
  refine im (go_aload_n (pc := 36) (Y := YX3_person) 1 dX3_person_36 rfl rfl) ?_
  refine im (go_aload_n (pc := 37) (Y := YX3_person) 1 dX3_person_37 rfl rfl) ?_
  refine flp (go_gR (pc := 38) (Y := YX3_person) fF1021 (by decide) q591 (Or.inl rfl) dX3_person_38) (fun v25 => ?_)
  refine flp (go_gR (pc := 41) (Y := YX3_person) fF1024 (by decide) q331 (Or.inl rfl) dX3_person_41) (fun v26 => ?_)
  refine kdg (fun k27 => ?_)
  refine bdg (fun s28 v29 he30 => ?_)
  refine im (go_callV (pc := 44) (Y := YX3_person) (Yc := YX3_told) (y := yX3_told) (n := 1) (c0 := 3) (q := (RX3, TX3, 5)) this [rV v26] [rV v17] rfl rfl k27 (mX3_told s23 he30) YOK_X3_told rfl q847 q134 q846 qs18 q844 (Nat.le_of_ble_eq_true rfl) (Nat.le_of_ble_eq_true rfl) (Nat.le_of_ble_eq_true rfl) dX3_person_44 (st2 := [iV v29, rV v17]) rfl) ?_
  clear he30
  refine flp (go_pI (pc := 47) (Y := YX3_person) fF65 (by decide) q900 (Or.inl rfl) (Or.inl rfl) rfl rfl rfl dX3_person_47) (fun s31 => ?_)
  refine im (go_aload_n (pc := 50) (Y := YX3_person) 0 dX3_person_50 rfl rfl) ?_
  refine im (go_aload_n (pc := 51) (Y := YX3_person) 1 dX3_person_51 rfl rfl) ?_
  refine im (go_ldcS (pc := 52) (Y := YX3_person) (idx := 229) (i := 19) (tx := "wit") (by decide +kernel) dX3_person_52) ?_
  refine im (go_iconst (pc := 54) (Y := YX3_person) (v := 0) dX3_person_54 rfl) ?_
  refine im (go_bipush (pc := 55) (Y := YX3_person) (v := 9) dX3_person_55 rfl) ?_
  refine kdg (fun k32 => ?_)
  refine bdg (fun s33 v34 he35 => ?_)
  refine im (go_callV (pc := 57) (Y := YX3_person) (Yc := YX3_part) (y := yX3_part) (n := 3) (c0 := 3) (q := (RX3, TX3, 5)) this [rV (s31.ks 19), iV 0, iV 9] [rV v17] rfl rfl k32 (mX3_part s31 he35) YOK_X3_part rfl q707 q134 q706 qs7 q704 (Nat.le_of_ble_eq_true rfl) (Nat.le_of_ble_eq_true rfl) (Nat.le_of_ble_eq_true rfl) dX3_person_57 (st2 := [iV v34, rV v17]) rfl) ?_
  clear he35
  refine flp (go_pI (pc := 60) (Y := YX3_person) fF66 (by decide) q901 (Or.inl rfl) (Or.inl rfl) rfl rfl rfl dX3_person_60) (fun s36 => ?_)
  refine im (go_aload_n (pc := 63) (Y := YX3_person) 1 dX3_person_63 rfl rfl) ?_
  refine kdg (fun k37 => ?_)
  refine bpg (fun v38 he39 => ?_)
  refine im (go_callV (pc := 64) (Y := YX3_person) (Yc := YX3_isOver) (y := yX3_isOver) (n := 0) (c0 := 3) (q := (RX3, TX3, 5)) this [] [] rfl rfl k37 (mX3_isOver s36 he39) YOK_X3_isOver rfl q698 q134 q697 qs5 q695 (Nat.le_of_ble_eq_true rfl) (Nat.le_of_ble_eq_true rfl) (Nat.le_of_ble_eq_true rfl) dX3_person_64 (st2 := [iV v38]) rfl) ?_
  clear he39
  refine flp2 (go_if_ne (pc := 67) (Y := YX3_person) 82 dX3_person_67 (by decide)) ?_ ?_
  · refine im (go_aload_n (pc := 70) (Y := YX3_person) 1 dX3_person_70 rfl rfl) ?_
    refine flp (go_gR (pc := 71) (Y := YX3_person) fF1021 (by decide) q591 (Or.inl rfl) dX3_person_71) (fun v40 => ?_)
    refine flp (go_gR (pc := 74) (Y := YX3_person) fF1025 (by decide) q336 (Or.inl rfl) dX3_person_74) (fun v41 => ?_)
    refine im (go_aload_n (pc := 77) (Y := YX3_person) 0 dX3_person_77 rfl rfl) ?_
    refine ivg (fun w42 r43 k44 => ?_)
    refine bdg (fun s45 v46 he47 => ?_)
    refine im (go_callV (pc := 78) (Y := YX3_person) (Yc := YJ2_add) (y := yJ2_add) (n := 1) (c0 := 1) (q := (RJ2, TJ2, 3)) w42 [rV v17] [] (by rw [r43]; rfl) rfl k44 (mJ2_add s36 he47) YOK_J2_add rfl q792 q132 q790 q791 q789 (Nat.le_of_ble_eq_true rfl) (Nat.le_of_ble_eq_true rfl) (Nat.le_of_ble_eq_true rfl) dX3_person_78 (st2 := [iV v46]) rfl) ?_
    clear he47
    refine im (go_pop (pc := 81) (Y := YX3_person) dX3_person_81 rfl) ?_
    refine e1 (fun q0 => ?_)
    subst q0
    exact go_vret (pc := 82) (Y := YX3_person) rfl dX3_person_82
  · refine e1 (fun q0 => ?_)
    subst q0
    exact go_vret (pc := 82) (Y := YX3_person) rfl dX3_person_82
abbrev YX5_person : mY := (RX5, cX5_person, 2, (Option.some (.object "ThirdWitness$Person")), 3, 64, false)
theorem YOK_X5_person : YOK yX5_person 1 := ⟨⟨by decide +kernel, by decide +kernel⟩, by decide +kernel⟩
theorem mX5_person {G : gG} (s0 : St) {this : Nat} {p0 : Int32} {vE : Option Nat} (h : sX5_person s0 this p0 = some vE) : Mt G YX5_person yX5_person [rV (some this), iV p0] s0 (some (rV vE)) s0 := by
  refine go_start (ls0 := [(0, rV (some this)), (1, iV p0)]) (by decide +kernel) rfl (fun h => by cases h) (Nat.le_of_ble_eq_true rfl) rfl ?_
  revert h
  unfold sX5_person
  refine im (go_aload_n (pc := 0) (Y := YX5_person) 0 dX5_person_0 rfl rfl) ?_
  refine flp (go_gR (pc := 1) (Y := YX5_person) fF1025 (by decide) q333 (Or.inl rfl) dX5_person_1) (fun v1 => ?_)
  refine im (go_iload_n (pc := 4) (Y := YX5_person) 1 dX5_person_4 rfl rfl) ?_
  refine ivg (fun w2 r3 k4 => ?_)
  refine bpg (fun v5 he6 => ?_)
  refine im (go_callV (pc := 5) (Y := YX5_person) (Yc := YJ2_get) (y := yJ2_get) (n := 1) (c0 := 1) (q := (RJ2, TJ2, 3)) w2 [iV p0] [] (by rw [r3]; rfl) rfl k4 (mJ2_get s0 he6) YOK_J2_get rfl q769 q132 q767 q768 q766 (Nat.le_of_ble_eq_true rfl) (Nat.le_of_ble_eq_true rfl) (Nat.le_of_ble_eq_true rfl) dX5_person_5 (st2 := [rV v5]) rfl) ?_
  clear he6
  refine flp (go_cast (pc := 8) (Y := YX5_person) (cs := [16, 17, 18, 19]) (nm := "ThirdWitness$Person") (by decide +kernel) q987 dX5_person_8) (fun h7 => ?_)
  revert h7
  refine e1 (fun q0 => ?_)
  subst q0
  exact go_aret (pc := 11) (Y := YX5_person) rfl (Or.inl ⟨_, rfl⟩) dX5_person_11
abbrev YX3_goes : mY := (RX3, cX3_goes, 5, (Option.none : Option Jvm.ClassFile.FieldType), 9, 201, false)
theorem YOK_X3_goes : YOK yX3_goes 0 := ⟨⟨by decide +kernel, by decide +kernel⟩, by decide +kernel⟩
theorem mX3_goes {G : gG} (s0 : St) {this : Nat} {sE : St} (h : sX3_goes s0 this = some sE) : Mt G YX3_goes yX3_goes [rV (some this)] s0 none sE := by
  refine go_start (ls0 := [(0, rV (some this))]) (by decide +kernel) rfl (fun h => by cases h) (Nat.le_of_ble_eq_true rfl) rfl ?_
  revert h
  unfold sX3_goes
  refine im (go_aload_n (pc := 0) (Y := YX3_goes) 0 dX3_goes_0 rfl rfl) ?_
  refine im (go_aload_n (pc := 1) (Y := YX3_goes) 0 dX3_goes_1 rfl rfl) ?_
  refine flp (go_gR (pc := 2) (Y := YX3_goes) fF1021 (by decide) q591 (Or.inl rfl) dX3_goes_2) (fun v1 => ?_)
  refine flp (go_gI (pc := 5) (Y := YX3_goes) fF50 (by decide) q322 (Or.inl rfl) dX3_goes_5) (fun v2 => ?_)
  refine im (go_bipush (pc := 8) (Y := YX3_goes) (v := 10) dX3_goes_8 rfl) ?_
  refine kdg (fun k3 => ?_)
  refine bpg (fun s4 he5 => ?_)
  refine im (go_callV (pc := 10) (Y := YX3_goes) (Yc := YX3_begins) (y := yX3_begins) (n := 2) (c0 := 3) (q := (RX3, TX3, 5)) this [iV v2, iV 10] [] rfl rfl k3 (mX3_begins s0 he5) YOK_X3_begins rfl q737 q134 q736 qs12 q734 (Nat.le_of_ble_eq_true rfl) (Nat.le_of_ble_eq_true rfl) (Nat.le_of_ble_eq_true rfl) dX3_goes_10 (st2 := []) rfl) ?_
  clear he5
  refine im (go_aload_n (pc := 13) (Y := YX3_goes) 0 dX3_goes_13 rfl rfl) ?_
  refine im (go_aload_n (pc := 14) (Y := YX3_goes) 0 dX3_goes_14 rfl rfl) ?_
  refine flp (go_gR (pc := 15) (Y := YX3_goes) fF1021 (by decide) q591 (Or.inl rfl) dX3_goes_15) (fun v6 => ?_)
  refine flp (go_gR (pc := 18) (Y := YX3_goes) fF1025 (by decide) q336 (Or.inl rfl) dX3_goes_18) (fun v7 => ?_)
  refine kdg (fun k8 => ?_)
  refine bdg (fun s9 v10 he11 => ?_)
  refine im (go_callV (pc := 21) (Y := YX3_goes) (Yc := YX3_told) (y := yX3_told) (n := 1) (c0 := 3) (q := (RX3, TX3, 5)) this [rV v7] [] rfl rfl k8 (mX3_told s4 he11) YOK_X3_told rfl q847 q134 q846 qs18 q844 (Nat.le_of_ble_eq_true rfl) (Nat.le_of_ble_eq_true rfl) (Nat.le_of_ble_eq_true rfl) dX3_goes_21 (st2 := [iV v10]) rfl) ?_
  clear he11
  refine im (go_istore_n (pc := 24) (Y := YX3_goes) (ls2 := [(1, iV v10), (0, rV (some this))]) dX3_goes_24 rfl (Nat.le_of_ble_eq_true rfl) rfl) ?_
  refine im (go_aload_n (pc := 25) (Y := YX3_goes) 1 dX3_goes_25 rfl rfl) ?_
  refine im (go_aload_n (pc := 26) (Y := YX3_goes) 1 dX3_goes_26 rfl rfl) ?_
  refine flp (go_gR (pc := 27) (Y := YX3_goes) fF1021 (by decide) q591 (Or.inl rfl) dX3_goes_27) (fun v12 => ?_)
  refine flp (go_gR (pc := 30) (Y := YX3_goes) fF1024 (by decide) q331 (Or.inl rfl) dX3_goes_30) (fun v13 => ?_)
  refine kdg (fun k14 => ?_)
  refine bdg (fun s15 v16 he17 => ?_)
  refine im (go_callV (pc := 33) (Y := YX3_goes) (Yc := YX3_told) (y := yX3_told) (n := 1) (c0 := 3) (q := (RX3, TX3, 5)) this [rV v13] [] rfl rfl k14 (mX3_told s9 he17) YOK_X3_told rfl q847 q134 q846 qs18 q844 (Nat.le_of_ble_eq_true rfl) (Nat.le_of_ble_eq_true rfl) (Nat.le_of_ble_eq_true rfl) dX3_goes_33 (st2 := [iV v16]) rfl) ?_
  clear he17
  refine im (go_istore_n (pc := 36) (Y := YX3_goes) (ls2 := [(2, iV v16), (1, iV v10), (0, rV (some this))]) dX3_goes_36 rfl (Nat.le_of_ble_eq_true rfl) rfl) ?_
  refine im (go_aload_n (pc := 37) (Y := YX3_goes) 2 dX3_goes_37 rfl rfl) ?_
  refine im (go_ldcS (pc := 38) (Y := YX3_goes) (idx := 224) (i := 1) (tx := "at") (by decide +kernel) dX3_goes_38) ?_
  refine kdg (fun k18 => ?_)
  refine bpg (fun s19 he20 => ?_)
  refine im (go_callV (pc := 40) (Y := YX3_goes) (Yc := YX3_needs) (y := yX3_needs) (n := 1) (c0 := 3) (q := (RX3, TX3, 5)) this [rV (s15.ks 1)] [] rfl rfl k18 (mX3_needs s15 he20) YOK_X3_needs rfl q711 q134 q710 qs8 q708 (Nat.le_of_ble_eq_true rfl) (Nat.le_of_ble_eq_true rfl) (Nat.le_of_ble_eq_true rfl) dX3_goes_40 (st2 := []) rfl) ?_
  clear he20
  refine im (go_aload_n (pc := 43) (Y := YX3_goes) 2 dX3_goes_43 rfl rfl) ?_
  refine im (go_iconst (pc := 44) (Y := YX3_goes) (v := 1) dX3_goes_44 rfl) ?_
  refine im (go_bipush (pc := 45) (Y := YX3_goes) (v := 59) dX3_goes_45 rfl) ?_
  refine kdg (fun k21 => ?_)
  refine bdg (fun s22 v23 he24 => ?_)
  refine im (go_callV (pc := 47) (Y := YX3_goes) (Yc := YX3_wholeAt) (y := yX3_wholeAt) (n := 2) (c0 := 3) (q := (RX3, TX3, 5)) this [iV 1, iV 59] [] rfl rfl k21 (mX3_wholeAt s19 he24) YOK_X3_wholeAt rfl q724 q134 q723 qs10 q721 (Nat.le_of_ble_eq_true rfl) (Nat.le_of_ble_eq_true rfl) (Nat.le_of_ble_eq_true rfl) dX3_goes_47 (st2 := [iV v23]) rfl) ?_
  clear he24
  refine im (go_istore_n (pc := 50) (Y := YX3_goes) (ls2 := [(3, iV v23), (2, iV v16), (1, iV v10), (0, rV (some this))]) dX3_goes_50 rfl (Nat.le_of_ble_eq_true rfl) rfl) ?_
  refine im (go_aload_n (pc := 51) (Y := YX3_goes) 3 dX3_goes_51 rfl rfl) ?_
  refine kdg (fun k25 => ?_)
  refine bpg (fun v26 he27 => ?_)
  refine im (go_callV (pc := 52) (Y := YX3_goes) (Yc := YX3_isOver) (y := yX3_isOver) (n := 0) (c0 := 3) (q := (RX3, TX3, 5)) this [] [] rfl rfl k25 (mX3_isOver s22 he27) YOK_X3_isOver rfl q698 q134 q697 qs5 q695 (Nat.le_of_ble_eq_true rfl) (Nat.le_of_ble_eq_true rfl) (Nat.le_of_ble_eq_true rfl) dX3_goes_52 (st2 := [iV v26]) rfl) ?_
  clear he27
  refine flp2 (go_if_eq (pc := 55) (Y := YX3_goes) 59 dX3_goes_55 (by decide)) ?_ ?_
  · refine im (go_aload_n (pc := 59) (Y := YX3_goes) 3 dX3_goes_59 rfl rfl) ?_
    refine flp (go_gR (pc := 60) (Y := YX3_goes) fF1021 (by decide) q591 (Or.inl rfl) dX3_goes_60) (fun v28 => ?_)
    refine im (go_iload_n (pc := 63) (Y := YX3_goes) 2 dX3_goes_63 rfl rfl) ?_
    refine ivg (fun w29 r30 k31 => ?_)
    refine bpg (fun v32 he33 => ?_)
    refine im (go_callV (pc := 64) (Y := YX3_goes) (Yc := YX5_person) (y := yX5_person) (n := 1) (c0 := 5) (q := (RX5, TX5, 10)) w29 [iV v10] [] (by rw [r30]; rfl) rfl k31 (mX5_person s22 he33) YOK_X5_person rfl q986 q136 q984 q985 q983 (Nat.le_of_ble_eq_true rfl) (Nat.le_of_ble_eq_true rfl) (Nat.le_of_ble_eq_true rfl) dX3_goes_64 (st2 := [rV v32]) rfl) ?_
    clear he33
    refine im (go_astore (pc := 67) (Y := YX3_goes) (ls2 := [(4, rV v32), (3, iV v23), (2, iV v16), (1, iV v10), (0, rV (some this))]) dX3_goes_67 (Nat.le_of_ble_eq_true rfl) rfl) ?_
    refine im (go_aload (pc := 69) (Y := YX3_goes) 0 dX3_goes_69 rfl) ?_
    refine flp (go_gI (pc := 71) (Y := YX3_goes) fF68 (by decide) q906 (Or.inl rfl) dX3_goes_71) (fun v34 => ?_)
    refine bpg (fun s35 he59 h60 => ?_)
    have hj100 : Go G YX3_goes s0 sE none 100 [(0, rV (some this)), (2, iV v16), (3, iV v23), (4, rV v32)] [] s35 := by
      clear he59
      revert h60
      refine im (go_aload_n (pc := 100) (Y := YX3_goes) 0 dX3_goes_100 rfl rfl) ?_
      refine kdg (fun k36 => ?_)
      refine bpg (fun s37 he38 => ?_)
      refine im (go_callV (pc := 101) (Y := YX3_goes) (Yc := YX3_on) (y := yX3_on) (n := 0) (c0 := 3) (q := (RX3, TX3, 5)) this [] [] rfl rfl k36 (mX3_on s35 he38) YOK_X3_on rfl q702 q134 q701 qs6 q699 (Nat.le_of_ble_eq_true rfl) (Nat.le_of_ble_eq_true rfl) (Nat.le_of_ble_eq_true rfl) dX3_goes_101 (st2 := []) rfl) ?_
      clear he38
      refine im (go_aload_n (pc := 104) (Y := YX3_goes) 0 dX3_goes_104 rfl rfl) ?_
      refine kdg (fun k39 => ?_)
      refine bpg (fun v40 he41 => ?_)
      refine im (go_callV (pc := 105) (Y := YX3_goes) (Yc := YX3_isOver) (y := yX3_isOver) (n := 0) (c0 := 3) (q := (RX3, TX3, 5)) this [] [] rfl rfl k39 (mX3_isOver s37 he41) YOK_X3_isOver rfl q698 q134 q697 qs5 q695 (Nat.le_of_ble_eq_true rfl) (Nat.le_of_ble_eq_true rfl) (Nat.le_of_ble_eq_true rfl) dX3_goes_105 (st2 := [iV v40]) rfl) ?_
      clear he41
      refine flp2 (go_if_eq (pc := 108) (Y := YX3_goes) 112 dX3_goes_108 (by decide)) ?_ ?_
      · refine im (go_aload (pc := 112) (Y := YX3_goes) 3 dX3_goes_112 rfl) ?_
        refine flp (go_gR (pc := 114) (Y := YX3_goes) fF1033 (by decide) q896 (Or.inl rfl) dX3_goes_114) (fun v42 => ?_)
        refine im (go_aload (pc := 117) (Y := YX3_goes) 3 dX3_goes_117 rfl) ?_
        refine flp (go_gI (pc := 119) (Y := YX3_goes) fF68 (by decide) q906 (Or.inl rfl) dX3_goes_119) (fun v43 => ?_)
        refine im (go_iload_n (pc := 122) (Y := YX3_goes) 2 dX3_goes_122 rfl rfl) ?_
        refine flp (go_tI (pc := 123) (Y := YX3_goes) dX3_goes_123) (fun s44 => ?_)
        refine im (go_aload (pc := 124) (Y := YX3_goes) 3 dX3_goes_124 rfl) ?_
        refine flp (go_gR (pc := 126) (Y := YX3_goes) fF1034 (by decide) q898 (Or.inl rfl) dX3_goes_126) (fun v45 => ?_)
        refine im (go_aload (pc := 129) (Y := YX3_goes) 3 dX3_goes_129 rfl) ?_
        refine flp (go_gI (pc := 131) (Y := YX3_goes) fF68 (by decide) q906 (Or.inl rfl) dX3_goes_131) (fun v46 => ?_)
        refine im (go_iload_n (pc := 134) (Y := YX3_goes) 1 dX3_goes_134 rfl rfl) ?_
        refine flp (go_tI (pc := 135) (Y := YX3_goes) dX3_goes_135) (fun s47 => ?_)
        refine im (go_aload (pc := 136) (Y := YX3_goes) 3 dX3_goes_136 rfl) ?_
        refine im (go_dup (pc := 138) (Y := YX3_goes) dX3_goes_138 rfl) ?_
        refine flp (go_gI (pc := 139) (Y := YX3_goes) fF68 (by decide) q906 (Or.inl rfl) dX3_goes_139) (fun v48 => ?_)
        refine im (go_iconst (pc := 142) (Y := YX3_goes) (v := 1) dX3_goes_142 rfl) ?_
        refine im (go_iadd (pc := 143) (Y := YX3_goes) dX3_goes_143) ?_
        refine flp (go_pI (pc := 144) (Y := YX3_goes) fF68 (by decide) q906 (Or.inl rfl) (Or.inl rfl) rfl rfl rfl dX3_goes_144) (fun s49 => ?_)
        refine im (go_aload_n (pc := 147) (Y := YX3_goes) 0 dX3_goes_147 rfl rfl) ?_
        refine flp (go_gR (pc := 148) (Y := YX3_goes) fF1021 (by decide) q591 (Or.inl rfl) dX3_goes_148) (fun v50 => ?_)
        refine im (go_dup (pc := 151) (Y := YX3_goes) dX3_goes_151 rfl) ?_
        refine flp (go_gI (pc := 152) (Y := YX3_goes) fF50 (by decide) q322 (Or.inl rfl) dX3_goes_152) (fun v51 => ?_)
        refine im (go_iconst (pc := 155) (Y := YX3_goes) (v := 1) dX3_goes_155 rfl) ?_
        refine im (go_iadd (pc := 156) (Y := YX3_goes) dX3_goes_156) ?_
        refine flp (go_pI (pc := 157) (Y := YX3_goes) fF50 (by decide) q322 (Or.inl rfl) (Or.inl rfl) rfl rfl rfl dX3_goes_157) (fun s52 => ?_)
        refine e1 (fun q0 => ?_)
        subst q0
        exact go_vret (pc := 160) (Y := YX3_goes) rfl dX3_goes_160
      · refine e1 (fun q0 => ?_)
        subst q0
        exact go_vret (pc := 111) (Y := YX3_goes) rfl dX3_goes_111
    clear h60
    revert he59
    refine flp2 (go_if_le (pc := 74) (Y := YX3_goes) 100 dX3_goes_74 (by decide)) ?_ ?_
    · refine e1 (fun q0 => ?_)
      subst q0
      exact go_sub [4, 2, 1, 0] rfl hj100
    · refine im (go_iload_n (pc := 77) (Y := YX3_goes) 1 dX3_goes_77 rfl rfl) ?_
      refine im (go_aload (pc := 78) (Y := YX3_goes) 0 dX3_goes_78 rfl) ?_
      refine flp (go_gR (pc := 80) (Y := YX3_goes) fF1033 (by decide) q896 (Or.inl rfl) dX3_goes_80) (fun v53 => ?_)
      refine im (go_aload (pc := 83) (Y := YX3_goes) 0 dX3_goes_83 rfl) ?_
      refine flp (go_gI (pc := 85) (Y := YX3_goes) fF68 (by decide) q906 (Or.inl rfl) dX3_goes_85) (fun v54 => ?_)
      refine im (go_iconst (pc := 88) (Y := YX3_goes) (v := 1) dX3_goes_88 rfl) ?_
      refine im (go_isub (pc := 89) (Y := YX3_goes) dX3_goes_89) ?_
      refine flp (go_lI1 (pc := 90) (Y := YX3_goes) dX3_goes_90) (fun v55 => ?_)
      refine flp2 (go_icmp_gt (pc := 91) (Y := YX3_goes) 100 dX3_goes_91 (by decide)) ?_ ?_
      · refine e1 (fun q0 => ?_)
        subst q0
        exact go_sub [4, 2, 1, 0] rfl hj100
      · refine im (go_aload_n (pc := 94) (Y := YX3_goes) 4 dX3_goes_94 rfl rfl) ?_
        refine im (go_bipush (pc := 95) (Y := YX3_goes) (v := 7) dX3_goes_95 rfl) ?_
        refine kdg (fun k56 => ?_)
        refine bpg (fun s57 he58 => ?_)
        refine im (go_callV (pc := 97) (Y := YX3_goes) (Yc := YX3_wrong) (y := yX3_wrong) (n := 1) (c0 := 3) (q := (RX3, TX3, 5)) this [iV 7] [] rfl rfl k56 (mX3_wrong s22 he58) YOK_X3_wrong rfl q694 q134 q693 qs4 q691 (Nat.le_of_ble_eq_true rfl) (Nat.le_of_ble_eq_true rfl) (Nat.le_of_ble_eq_true rfl) dX3_goes_97 (st2 := []) rfl) ?_
        clear he58
        refine e1 (fun q0 => ?_)
        subst q0
        exact go_sub [4, 2, 1, 0] rfl hj100
  · refine e1 (fun q0 => ?_)
    subst q0
    exact go_vret (pc := 58) (Y := YX3_goes) rfl dX3_goes_58
abbrev YX13_init : mY := (RX13, cX13_init, 2, (Option.none : Option Jvm.ClassFile.FieldType), 2, 47, true)
theorem YOK_X13_init : YOK yX13_init 1 := ⟨⟨by decide +kernel, by decide +kernel⟩, by decide +kernel⟩
theorem mX13_init {G : gG} (s0 : St) {this : Nat} {p0 : Option Nat} {sE : St} (h : sX13_init s0 this p0 = some sE) : Mt G YX13_init yX13_init [rV (some this), rV p0] s0 none sE := by
  refine go_start (ls0 := [(0, rV (some this)), (1, rV p0)]) (by decide +kernel) rfl (fun _ => rfl) (Nat.le_of_ble_eq_true rfl) rfl ?_
  revert h
  unfold sX13_init
  refine im (go_aload_n (pc := 0) (Y := YX13_init) 0 dX13_init_0 rfl rfl) ?_
  refine im (go_aload_n (pc := 1) (Y := YX13_init) 1 dX13_init_1 rfl rfl) ?_
  refine bpg (fun s1 he2 => ?_)
  refine im (go_callI (pc := 2) (Y := YX13_init) (Yc := YX7_init) (y := yX7_init) (n := 1) this [rV p0] [] rfl (mX7_init s0 he2) YOK_X7_init rfl rfl q782 rfl q148 q781 q997 (Nat.le_of_ble_eq_true rfl) (Nat.le_of_ble_eq_true rfl) (Nat.le_of_ble_eq_true rfl) dX13_init_2 (st2 := []) rfl) ?_
  clear he2
  refine im (go_aload_n (pc := 5) (Y := YX13_init) 0 dX13_init_5 rfl rfl) ?_
  refine im (go_iconst (pc := 6) (Y := YX13_init) (v := -1) dX13_init_6 rfl) ?_
  refine flp (go_pI (pc := 7) (Y := YX13_init) fF76 (by decide) q1008 (Or.inl rfl) (Or.inl rfl) rfl rfl rfl dX13_init_7) (fun s3 => ?_)
  refine e1 (fun q0 => ?_)
  subst q0
  exact go_vret (pc := 10) (Y := YX13_init) rfl dX13_init_10
abbrev YX3_quarrel : mY := (RX3, cX3_quarrel, 2, (Option.none : Option Jvm.ClassFile.FieldType), 10, 225, false)
theorem YOK_X3_quarrel : YOK yX3_quarrel 0 := ⟨⟨by decide +kernel, by decide +kernel⟩, by decide +kernel⟩
theorem mX3_quarrel {G : gG} (s0 : St) {this : Nat} {sE : St} (h : sX3_quarrel s0 this = some sE) : Mt G YX3_quarrel yX3_quarrel [rV (some this)] s0 none sE := by
  refine go_start (ls0 := [(0, rV (some this))]) (by decide +kernel) rfl (fun h => by cases h) (Nat.le_of_ble_eq_true rfl) rfl ?_
  revert h
  unfold sX3_quarrel
  refine im (go_aload_n (pc := 0) (Y := YX3_quarrel) 0 dX3_quarrel_0 rfl rfl) ?_
  refine im (go_aload_n (pc := 1) (Y := YX3_quarrel) 0 dX3_quarrel_1 rfl rfl) ?_
  refine flp (go_gR (pc := 2) (Y := YX3_quarrel) fF1021 (by decide) q591 (Or.inl rfl) dX3_quarrel_2) (fun v1 => ?_)
  refine flp (go_gR (pc := 5) (Y := YX3_quarrel) fF1026 (by decide) q339 (Or.inl rfl) dX3_quarrel_5) (fun v2 => ?_)
  refine ivg (fun w3 r4 k5 => ?_)
  refine bpg (fun v6 he7 => ?_)
  refine im (go_callV (pc := 8) (Y := YX3_quarrel) (Yc := YJ2_size) (y := yJ2_size) (n := 0) (c0 := 1) (q := (RJ2, TJ2, 3)) w3 [] [rV (some this)] (by rw [r4]; rfl) rfl k5 (mJ2_size s0 he7) YOK_J2_size rfl q733 q132 q731 q732 q730 (Nat.le_of_ble_eq_true rfl) (Nat.le_of_ble_eq_true rfl) (Nat.le_of_ble_eq_true rfl) dX3_quarrel_8 (st2 := [iV v6, rV (some this)]) rfl) ?_
  clear he7
  refine im (go_iconst (pc := 11) (Y := YX3_quarrel) (v := 3) dX3_quarrel_11 rfl) ?_
  refine kdg (fun k8 => ?_)
  refine bpg (fun s9 he10 => ?_)
  refine im (go_callV (pc := 12) (Y := YX3_quarrel) (Yc := YX3_begins) (y := yX3_begins) (n := 2) (c0 := 3) (q := (RX3, TX3, 5)) this [iV v6, iV 3] [] rfl rfl k8 (mX3_begins s0 he10) YOK_X3_begins rfl q737 q134 q736 qs12 q734 (Nat.le_of_ble_eq_true rfl) (Nat.le_of_ble_eq_true rfl) (Nat.le_of_ble_eq_true rfl) dX3_quarrel_12 (st2 := []) rfl) ?_
  clear he10
  refine flp (go_nwO (pc := 15) (Y := YX3_quarrel) (c0 := 15) (q := (RX13, TX13, 7)) rfl rfl q992 q993 q155 dX3_quarrel_15) (fun s11 a12 => ?_)
  refine im (go_dup (pc := 18) (Y := YX3_quarrel) dX3_quarrel_18 rfl) ?_
  refine im (go_aload_n (pc := 19) (Y := YX3_quarrel) 0 dX3_quarrel_19 rfl rfl) ?_
  refine kdg (fun k13 => ?_)
  refine bdg (fun s14 v15 he16 => ?_)
  refine im (go_callV (pc := 20) (Y := YX3_quarrel) (Yc := YX3_fresh) (y := yX3_fresh) (n := 0) (c0 := 3) (q := (RX3, TX3, 5)) this [] [rV (some a12), rV (some a12)] rfl rfl k13 (mX3_fresh s11 he16) YOK_X3_fresh rfl q743 q134 q742 qs13 q740 (Nat.le_of_ble_eq_true rfl) (Nat.le_of_ble_eq_true rfl) (Nat.le_of_ble_eq_true rfl) dX3_quarrel_20 (st2 := [rV v15, rV (some a12), rV (some a12)]) rfl) ?_
  clear he16
  refine bpg (fun s17 he18 => ?_)
  refine im (go_callI (pc := 23) (Y := YX3_quarrel) (Yc := YX13_init) (y := yX13_init) (n := 1) a12 [rV v15] [rV (some a12)] rfl (mX13_init s14 he18) YOK_X13_init rfl rfl q996 rfl q155 q995 q994 (Nat.le_of_ble_eq_true rfl) (Nat.le_of_ble_eq_true rfl) (Nat.le_of_ble_eq_true rfl) dX3_quarrel_23 (st2 := [rV (some a12)]) rfl) ?_
  clear he18
  refine im (go_astore_n (pc := 26) (Y := YX3_quarrel) (ls2 := [(1, rV (some a12)), (0, rV (some this))]) dX3_quarrel_26 rfl (Nat.le_of_ble_eq_true rfl) rfl) ?_
  refine im (go_aload_n (pc := 27) (Y := YX3_quarrel) 0 dX3_quarrel_27 rfl rfl) ?_
  refine im (go_aload_n (pc := 28) (Y := YX3_quarrel) 1 dX3_quarrel_28 rfl rfl) ?_
  refine im (go_aload_n (pc := 29) (Y := YX3_quarrel) 1 dX3_quarrel_29 rfl rfl) ?_
  refine flp (go_gR (pc := 30) (Y := YX3_quarrel) fF1021 (by decide) q591 (Or.inl rfl) dX3_quarrel_30) (fun v19 => ?_)
  refine flp (go_gR (pc := 33) (Y := YX3_quarrel) fF1025 (by decide) q336 (Or.inl rfl) dX3_quarrel_33) (fun v20 => ?_)
  refine kdg (fun k21 => ?_)
  refine bdg (fun s22 v23 he24 => ?_)
  refine im (go_callV (pc := 36) (Y := YX3_quarrel) (Yc := YX3_told) (y := yX3_told) (n := 1) (c0 := 3) (q := (RX3, TX3, 5)) this [rV v20] [rV (some a12)] rfl rfl k21 (mX3_told s17 he24) YOK_X3_told rfl q847 q134 q846 qs18 q844 (Nat.le_of_ble_eq_true rfl) (Nat.le_of_ble_eq_true rfl) (Nat.le_of_ble_eq_true rfl) dX3_quarrel_36 (st2 := [iV v23, rV (some a12)]) rfl) ?_
  clear he24
  refine flp (go_pI (pc := 39) (Y := YX3_quarrel) fF71 (by decide) q998 (Or.inl rfl) (Or.inl rfl) rfl rfl rfl dX3_quarrel_39) (fun s25 => ?_)
  refine im (go_aload_n (pc := 42) (Y := YX3_quarrel) 0 dX3_quarrel_42 rfl rfl) ?_
  refine im (go_aload_n (pc := 43) (Y := YX3_quarrel) 1 dX3_quarrel_43 rfl rfl) ?_
  refine im (go_aload_n (pc := 44) (Y := YX3_quarrel) 1 dX3_quarrel_44 rfl rfl) ?_
  refine flp (go_gR (pc := 45) (Y := YX3_quarrel) fF1021 (by decide) q591 (Or.inl rfl) dX3_quarrel_45) (fun v26 => ?_)
  refine flp (go_gR (pc := 48) (Y := YX3_quarrel) fF1025 (by decide) q336 (Or.inl rfl) dX3_quarrel_48) (fun v27 => ?_)
  refine kdg (fun k28 => ?_)
  refine bdg (fun s29 v30 he31 => ?_)
  refine im (go_callV (pc := 51) (Y := YX3_quarrel) (Yc := YX3_known) (y := yX3_known) (n := 1) (c0 := 3) (q := (RX3, TX3, 5)) this [rV v27] [rV (some a12)] rfl rfl k28 (mX3_known s25 he31) YOK_X3_known rfl q851 q134 q850 qs19 q848 (Nat.le_of_ble_eq_true rfl) (Nat.le_of_ble_eq_true rfl) (Nat.le_of_ble_eq_true rfl) dX3_quarrel_51 (st2 := [iV v30, rV (some a12)]) rfl) ?_
  clear he31
  refine flp (go_pI (pc := 54) (Y := YX3_quarrel) fF72 (by decide) q1000 (Or.inl rfl) (Or.inl rfl) rfl rfl rfl dX3_quarrel_54) (fun s32 => ?_)
  refine im (go_aload_n (pc := 57) (Y := YX3_quarrel) 1 dX3_quarrel_57 rfl rfl) ?_
  refine kdg (fun k33 => ?_)
  refine bpg (fun v34 he35 => ?_)
  refine im (go_callV (pc := 58) (Y := YX3_quarrel) (Yc := YX3_isOver) (y := yX3_isOver) (n := 0) (c0 := 3) (q := (RX3, TX3, 5)) this [] [] rfl rfl k33 (mX3_isOver s32 he35) YOK_X3_isOver rfl q698 q134 q697 qs5 q695 (Nat.le_of_ble_eq_true rfl) (Nat.le_of_ble_eq_true rfl) (Nat.le_of_ble_eq_true rfl) dX3_quarrel_58 (st2 := [iV v34]) rfl) ?_
  clear he35
  refine bpg (fun s36 he76 h77 => ?_)
  have hj80 : Go G YX3_quarrel s0 sE none 80 [(0, rV (some this)), (1, rV (some a12))] [] s36 := by
    clear he76
    revert h77
    refine im (go_aload_n (pc := 80) (Y := YX3_quarrel) 0 dX3_quarrel_80 rfl rfl) ?_
    refine kdg (fun k37 => ?_)
    refine bpg (fun s38 he39 => ?_)
    refine im (go_callV (pc := 81) (Y := YX3_quarrel) (Yc := YX3_on) (y := yX3_on) (n := 0) (c0 := 3) (q := (RX3, TX3, 5)) this [] [] rfl rfl k37 (mX3_on s36 he39) YOK_X3_on rfl q702 q134 q701 qs6 q699 (Nat.le_of_ble_eq_true rfl) (Nat.le_of_ble_eq_true rfl) (Nat.le_of_ble_eq_true rfl) dX3_quarrel_81 (st2 := []) rfl) ?_
    clear he39
    refine im (go_aload_n (pc := 84) (Y := YX3_quarrel) 0 dX3_quarrel_84 rfl rfl) ?_
    refine im (go_ldcS (pc := 85) (Y := YX3_quarrel) (idx := 224) (i := 1) (tx := "at") (by decide +kernel) dX3_quarrel_85) ?_
    refine kdg (fun k40 => ?_)
    refine bpg (fun s41 he42 => ?_)
    refine im (go_callV (pc := 87) (Y := YX3_quarrel) (Yc := YX3_needs) (y := yX3_needs) (n := 1) (c0 := 3) (q := (RX3, TX3, 5)) this [rV (s38.ks 1)] [] rfl rfl k40 (mX3_needs s38 he42) YOK_X3_needs rfl q711 q134 q710 qs8 q708 (Nat.le_of_ble_eq_true rfl) (Nat.le_of_ble_eq_true rfl) (Nat.le_of_ble_eq_true rfl) dX3_quarrel_87 (st2 := []) rfl) ?_
    clear he42
    refine im (go_aload_n (pc := 90) (Y := YX3_quarrel) 1 dX3_quarrel_90 rfl rfl) ?_
    refine im (go_aload_n (pc := 91) (Y := YX3_quarrel) 0 dX3_quarrel_91 rfl rfl) ?_
    refine im (go_aload_n (pc := 92) (Y := YX3_quarrel) 0 dX3_quarrel_92 rfl rfl) ?_
    refine flp (go_gR (pc := 93) (Y := YX3_quarrel) fF1021 (by decide) q591 (Or.inl rfl) dX3_quarrel_93) (fun v43 => ?_)
    refine flp (go_gR (pc := 96) (Y := YX3_quarrel) fF1024 (by decide) q331 (Or.inl rfl) dX3_quarrel_96) (fun v44 => ?_)
    refine kdg (fun k45 => ?_)
    refine bdg (fun s46 v47 he48 => ?_)
    refine im (go_callV (pc := 99) (Y := YX3_quarrel) (Yc := YX3_told) (y := yX3_told) (n := 1) (c0 := 3) (q := (RX3, TX3, 5)) this [rV v44] [rV (some a12)] rfl rfl k45 (mX3_told s41 he48) YOK_X3_told rfl q847 q134 q846 qs18 q844 (Nat.le_of_ble_eq_true rfl) (Nat.le_of_ble_eq_true rfl) (Nat.le_of_ble_eq_true rfl) dX3_quarrel_99 (st2 := [iV v47, rV (some a12)]) rfl) ?_
    clear he48
    refine flp (go_pI (pc := 102) (Y := YX3_quarrel) fF73 (by decide) q1002 (Or.inl rfl) (Or.inl rfl) rfl rfl rfl dX3_quarrel_102) (fun s49 => ?_)
    refine im (go_aload_n (pc := 105) (Y := YX3_quarrel) 1 dX3_quarrel_105 rfl rfl) ?_
    refine im (go_aload_n (pc := 106) (Y := YX3_quarrel) 0 dX3_quarrel_106 rfl rfl) ?_
    refine im (go_ldcwS (pc := 107) (Y := YX3_quarrel) (idx := 259) (i := 8) (tx := "from") (by decide +kernel) dX3_quarrel_107) ?_
    refine im (go_iconst (pc := 110) (Y := YX3_quarrel) (v := 0) dX3_quarrel_110 rfl) ?_
    refine im (go_bipush (pc := 111) (Y := YX3_quarrel) (v := 59) dX3_quarrel_111 rfl) ?_
    refine kdg (fun k50 => ?_)
    refine bdg (fun s51 v52 he53 => ?_)
    refine im (go_callV (pc := 113) (Y := YX3_quarrel) (Yc := YX3_part) (y := yX3_part) (n := 3) (c0 := 3) (q := (RX3, TX3, 5)) this [rV (s49.ks 8), iV 0, iV 59] [rV (some a12)] rfl rfl k50 (mX3_part s49 he53) YOK_X3_part rfl q707 q134 q706 qs7 q704 (Nat.le_of_ble_eq_true rfl) (Nat.le_of_ble_eq_true rfl) (Nat.le_of_ble_eq_true rfl) dX3_quarrel_113 (st2 := [iV v52, rV (some a12)]) rfl) ?_
    clear he53
    refine flp (go_pI (pc := 116) (Y := YX3_quarrel) fF74 (by decide) q1004 (Or.inl rfl) (Or.inl rfl) rfl rfl rfl dX3_quarrel_116) (fun s54 => ?_)
    refine im (go_aload_n (pc := 119) (Y := YX3_quarrel) 1 dX3_quarrel_119 rfl rfl) ?_
    refine im (go_aload_n (pc := 120) (Y := YX3_quarrel) 0 dX3_quarrel_120 rfl rfl) ?_
    refine im (go_ldcwS (pc := 121) (Y := YX3_quarrel) (idx := 263) (i := 11) (tx := "needs") (by decide +kernel) dX3_quarrel_121) ?_
    refine im (go_iconst (pc := 124) (Y := YX3_quarrel) (v := 1) dX3_quarrel_124 rfl) ?_
    refine im (go_bipush (pc := 125) (Y := YX3_quarrel) (v := 99) dX3_quarrel_125 rfl) ?_
    refine kdg (fun k55 => ?_)
    refine bdg (fun s56 v57 he58 => ?_)
    refine im (go_callV (pc := 127) (Y := YX3_quarrel) (Yc := YX3_part) (y := yX3_part) (n := 3) (c0 := 3) (q := (RX3, TX3, 5)) this [rV (s54.ks 11), iV 1, iV 99] [rV (some a12)] rfl rfl k55 (mX3_part s54 he58) YOK_X3_part rfl q707 q134 q706 qs7 q704 (Nat.le_of_ble_eq_true rfl) (Nat.le_of_ble_eq_true rfl) (Nat.le_of_ble_eq_true rfl) dX3_quarrel_127 (st2 := [iV v57, rV (some a12)]) rfl) ?_
    clear he58
    refine flp (go_pI (pc := 130) (Y := YX3_quarrel) fF75 (by decide) q1006 (Or.inl rfl) (Or.inl rfl) rfl rfl rfl dX3_quarrel_130) (fun s59 => ?_)
    refine im (go_aload_n (pc := 133) (Y := YX3_quarrel) 0 dX3_quarrel_133 rfl rfl) ?_
    refine kdg (fun k60 => ?_)
    refine bpg (fun v61 he62 => ?_)
    refine im (go_callV (pc := 134) (Y := YX3_quarrel) (Yc := YX3_isOver) (y := yX3_isOver) (n := 0) (c0 := 3) (q := (RX3, TX3, 5)) this [] [] rfl rfl k60 (mX3_isOver s59 he62) YOK_X3_isOver rfl q698 q134 q697 qs5 q695 (Nat.le_of_ble_eq_true rfl) (Nat.le_of_ble_eq_true rfl) (Nat.le_of_ble_eq_true rfl) dX3_quarrel_134 (st2 := [iV v61]) rfl) ?_
    clear he62
    refine flp2 (go_if_ne (pc := 137) (Y := YX3_quarrel) 152 dX3_quarrel_137 (by decide)) ?_ ?_
    · refine im (go_aload_n (pc := 140) (Y := YX3_quarrel) 0 dX3_quarrel_140 rfl rfl) ?_
      refine flp (go_gR (pc := 141) (Y := YX3_quarrel) fF1021 (by decide) q591 (Or.inl rfl) dX3_quarrel_141) (fun v63 => ?_)
      refine flp (go_gR (pc := 144) (Y := YX3_quarrel) fF1026 (by decide) q339 (Or.inl rfl) dX3_quarrel_144) (fun v64 => ?_)
      refine im (go_aload_n (pc := 147) (Y := YX3_quarrel) 1 dX3_quarrel_147 rfl rfl) ?_
      refine ivg (fun w65 r66 k67 => ?_)
      refine bdg (fun s68 v69 he70 => ?_)
      refine im (go_callV (pc := 148) (Y := YX3_quarrel) (Yc := YJ2_add) (y := yJ2_add) (n := 1) (c0 := 1) (q := (RJ2, TJ2, 3)) w65 [rV (some a12)] [] (by rw [r66]; rfl) rfl k67 (mJ2_add s59 he70) YOK_J2_add rfl q792 q132 q790 q791 q789 (Nat.le_of_ble_eq_true rfl) (Nat.le_of_ble_eq_true rfl) (Nat.le_of_ble_eq_true rfl) dX3_quarrel_148 (st2 := [iV v69]) rfl) ?_
      clear he70
      refine im (go_pop (pc := 151) (Y := YX3_quarrel) dX3_quarrel_151 rfl) ?_
      refine e1 (fun q0 => ?_)
      subst q0
      exact go_vret (pc := 152) (Y := YX3_quarrel) rfl dX3_quarrel_152
    · refine e1 (fun q0 => ?_)
      subst q0
      exact go_vret (pc := 152) (Y := YX3_quarrel) rfl dX3_quarrel_152
  clear h77
  revert he76
  refine flp2 (go_if_ne (pc := 61) (Y := YX3_quarrel) 80 dX3_quarrel_61 (by decide)) ?_ ?_
  · refine im (go_aload_n (pc := 64) (Y := YX3_quarrel) 0 dX3_quarrel_64 rfl rfl) ?_
    refine flp (go_gI (pc := 65) (Y := YX3_quarrel) fF71 (by decide) q998 (Or.inl rfl) dX3_quarrel_65) (fun v71 => ?_)
    refine im (go_aload_n (pc := 68) (Y := YX3_quarrel) 0 dX3_quarrel_68 rfl rfl) ?_
    refine flp (go_gI (pc := 69) (Y := YX3_quarrel) fF72 (by decide) q1000 (Or.inl rfl) dX3_quarrel_69) (fun v72 => ?_)
    refine flp2 (go_icmp_ne (pc := 72) (Y := YX3_quarrel) 80 dX3_quarrel_72 (by decide)) ?_ ?_
    · refine im (go_aload_n (pc := 75) (Y := YX3_quarrel) 1 dX3_quarrel_75 rfl rfl) ?_
      refine im (go_iconst (pc := 76) (Y := YX3_quarrel) (v := 3) dX3_quarrel_76 rfl) ?_
      refine kdg (fun k73 => ?_)
      refine bpg (fun s74 he75 => ?_)
      refine im (go_callV (pc := 77) (Y := YX3_quarrel) (Yc := YX3_wrong) (y := yX3_wrong) (n := 1) (c0 := 3) (q := (RX3, TX3, 5)) this [iV 3] [] rfl rfl k73 (mX3_wrong s32 he75) YOK_X3_wrong rfl q694 q134 q693 qs4 q691 (Nat.le_of_ble_eq_true rfl) (Nat.le_of_ble_eq_true rfl) (Nat.le_of_ble_eq_true rfl) dX3_quarrel_77 (st2 := []) rfl) ?_
      clear he75
      refine e1 (fun q0 => ?_)
      subst q0
      exact go_sub [1, 0] rfl hj80
    · refine e1 (fun q0 => ?_)
      subst q0
      exact go_sub [1, 0] rfl hj80
  · refine e1 (fun q0 => ?_)
    subst q0
    exact go_sub [1, 0] rfl hj80
abbrev YX3_hire : mY := (RX3, cX3_hire, 3, (Option.none : Option Jvm.ClassFile.FieldType), 10, 225, false)
theorem YOK_X3_hire : YOK yX3_hire 0 := ⟨⟨by decide +kernel, by decide +kernel⟩, by decide +kernel⟩
theorem mX3_hire {G : gG} (s0 : St) {this : Nat} {sE : St} (h : sX3_hire s0 this = some sE) : Mt G YX3_hire yX3_hire [rV (some this)] s0 none sE := by
  refine go_start (ls0 := [(0, rV (some this))]) (by decide +kernel) rfl (fun h => by cases h) (Nat.le_of_ble_eq_true rfl) rfl ?_
  revert h
  unfold sX3_hire
  refine im (go_aload_n (pc := 0) (Y := YX3_hire) 0 dX3_hire_0 rfl rfl) ?_
  refine im (go_iconst (pc := 1) (Y := YX3_hire) (v := -1) dX3_hire_1 rfl) ?_
  refine im (go_iconst (pc := 2) (Y := YX3_hire) (v := 0) dX3_hire_2 rfl) ?_
  refine kdg (fun k1 => ?_)
  refine bpg (fun s2 he3 => ?_)
  refine im (go_callV (pc := 3) (Y := YX3_hire) (Yc := YX3_begins) (y := yX3_begins) (n := 2) (c0 := 3) (q := (RX3, TX3, 5)) this [iV (-1), iV 0] [] rfl rfl k1 (mX3_begins s0 he3) YOK_X3_begins rfl q737 q134 q736 qs12 q734 (Nat.le_of_ble_eq_true rfl) (Nat.le_of_ble_eq_true rfl) (Nat.le_of_ble_eq_true rfl) dX3_hire_3 (st2 := []) rfl) ?_
  clear he3
  refine im (go_aload_n (pc := 6) (Y := YX3_hire) 0 dX3_hire_6 rfl rfl) ?_
  refine im (go_aload_n (pc := 7) (Y := YX3_hire) 0 dX3_hire_7 rfl rfl) ?_
  refine flp (go_gR (pc := 8) (Y := YX3_hire) fF1021 (by decide) q591 (Or.inl rfl) dX3_hire_8) (fun v4 => ?_)
  refine flp (go_gR (pc := 11) (Y := YX3_hire) fF1025 (by decide) q336 (Or.inl rfl) dX3_hire_11) (fun v5 => ?_)
  refine kdg (fun k6 => ?_)
  refine bdg (fun s7 v8 he9 => ?_)
  refine im (go_callV (pc := 14) (Y := YX3_hire) (Yc := YX3_known) (y := yX3_known) (n := 1) (c0 := 3) (q := (RX3, TX3, 5)) this [rV v5] [] rfl rfl k6 (mX3_known s2 he9) YOK_X3_known rfl q851 q134 q850 qs19 q848 (Nat.le_of_ble_eq_true rfl) (Nat.le_of_ble_eq_true rfl) (Nat.le_of_ble_eq_true rfl) dX3_hire_14 (st2 := [iV v8]) rfl) ?_
  clear he9
  refine im (go_istore_n (pc := 17) (Y := YX3_hire) (ls2 := [(1, iV v8), (0, rV (some this))]) dX3_hire_17 rfl (Nat.le_of_ble_eq_true rfl) rfl) ?_
  refine im (go_aload_n (pc := 18) (Y := YX3_hire) 1 dX3_hire_18 rfl rfl) ?_
  refine kdg (fun k10 => ?_)
  refine bpg (fun v11 he12 => ?_)
  refine im (go_callV (pc := 19) (Y := YX3_hire) (Yc := YX3_isOver) (y := yX3_isOver) (n := 0) (c0 := 3) (q := (RX3, TX3, 5)) this [] [] rfl rfl k10 (mX3_isOver s7 he12) YOK_X3_isOver rfl q698 q134 q697 qs5 q695 (Nat.le_of_ble_eq_true rfl) (Nat.le_of_ble_eq_true rfl) (Nat.le_of_ble_eq_true rfl) dX3_hire_19 (st2 := [iV v11]) rfl) ?_
  clear he12
  refine bpg (fun s13 he44 h45 => ?_)
  have hj46 : Go G YX3_hire s0 sE none 46 [(0, rV (some this)), (1, iV v8)] [] s13 := by
    clear he44
    revert h45
    refine im (go_aload_n (pc := 46) (Y := YX3_hire) 0 dX3_hire_46 rfl rfl) ?_
    refine kdg (fun k14 => ?_)
    refine bpg (fun s15 he16 => ?_)
    refine im (go_callV (pc := 47) (Y := YX3_hire) (Yc := YX3_on) (y := yX3_on) (n := 0) (c0 := 3) (q := (RX3, TX3, 5)) this [] [] rfl rfl k14 (mX3_on s13 he16) YOK_X3_on rfl q702 q134 q701 qs6 q699 (Nat.le_of_ble_eq_true rfl) (Nat.le_of_ble_eq_true rfl) (Nat.le_of_ble_eq_true rfl) dX3_hire_47 (st2 := []) rfl) ?_
    clear he16
    refine im (go_aload_n (pc := 50) (Y := YX3_hire) 0 dX3_hire_50 rfl rfl) ?_
    refine im (go_ldcwS (pc := 51) (Y := YX3_hire) (idx := 269) (i := 7) (tx := "fo\x72") (by decide +kernel) dX3_hire_51) ?_
    refine im (go_iconst (pc := 54) (Y := YX3_hire) (v := 0) dX3_hire_54 rfl) ?_
    refine im (go_bipush (pc := 55) (Y := YX3_hire) (v := 20) dX3_hire_55 rfl) ?_
    refine kdg (fun k17 => ?_)
    refine bdg (fun s18 v19 he20 => ?_)
    refine im (go_callV (pc := 57) (Y := YX3_hire) (Yc := YX3_part) (y := yX3_part) (n := 3) (c0 := 3) (q := (RX3, TX3, 5)) this [rV (s15.ks 7), iV 0, iV 20] [] rfl rfl k17 (mX3_part s15 he20) YOK_X3_part rfl q707 q134 q706 qs7 q704 (Nat.le_of_ble_eq_true rfl) (Nat.le_of_ble_eq_true rfl) (Nat.le_of_ble_eq_true rfl) dX3_hire_57 (st2 := [iV v19]) rfl) ?_
    clear he20
    refine im (go_istore_n (pc := 60) (Y := YX3_hire) (ls2 := [(2, iV v19), (0, rV (some this)), (1, iV v8)]) dX3_hire_60 rfl (Nat.le_of_ble_eq_true rfl) rfl) ?_
    refine im (go_aload_n (pc := 61) (Y := YX3_hire) 1 dX3_hire_61 rfl rfl) ?_
    refine kdg (fun k21 => ?_)
    refine bpg (fun v22 he23 => ?_)
    refine im (go_callV (pc := 62) (Y := YX3_hire) (Yc := YX3_isOver) (y := yX3_isOver) (n := 0) (c0 := 3) (q := (RX3, TX3, 5)) this [] [] rfl rfl k21 (mX3_isOver s18 he23) YOK_X3_isOver rfl q698 q134 q697 qs5 q695 (Nat.le_of_ble_eq_true rfl) (Nat.le_of_ble_eq_true rfl) (Nat.le_of_ble_eq_true rfl) dX3_hire_62 (st2 := [iV v22]) rfl) ?_
    clear he23
    refine flp2 (go_if_eq (pc := 65) (Y := YX3_hire) 69 dX3_hire_65 (by decide)) ?_ ?_
    · refine im (go_aload_n (pc := 69) (Y := YX3_hire) 1 dX3_hire_69 rfl rfl) ?_
      refine flp (go_gR (pc := 70) (Y := YX3_hire) fF1021 (by decide) q591 (Or.inl rfl) dX3_hire_70) (fun v24 => ?_)
      refine im (go_iload_n (pc := 73) (Y := YX3_hire) 2 dX3_hire_73 rfl rfl) ?_
      refine ivg (fun w25 r26 k27 => ?_)
      refine bpg (fun v28 he29 => ?_)
      refine im (go_callV (pc := 74) (Y := YX3_hire) (Yc := YX5_person) (y := yX5_person) (n := 1) (c0 := 5) (q := (RX5, TX5, 10)) w25 [iV v8] [] (by rw [r26]; rfl) rfl k27 (mX5_person s18 he29) YOK_X5_person rfl q986 q136 q984 q985 q983 (Nat.le_of_ble_eq_true rfl) (Nat.le_of_ble_eq_true rfl) (Nat.le_of_ble_eq_true rfl) dX3_hire_74 (st2 := [rV v28]) rfl) ?_
      clear he29
      refine im (go_iload_n (pc := 77) (Y := YX3_hire) 0 dX3_hire_77 rfl rfl) ?_
      refine flp (go_pI (pc := 78) (Y := YX3_hire) fF69 (by decide) q908 (Or.inl rfl) (Or.inl rfl) rfl rfl rfl dX3_hire_78) (fun s30 => ?_)
      refine im (go_aload_n (pc := 81) (Y := YX3_hire) 1 dX3_hire_81 rfl rfl) ?_
      refine flp (go_gR (pc := 82) (Y := YX3_hire) fF1021 (by decide) q591 (Or.inl rfl) dX3_hire_82) (fun v31 => ?_)
      refine im (go_dup (pc := 85) (Y := YX3_hire) dX3_hire_85 rfl) ?_
      refine flp (go_gI (pc := 86) (Y := YX3_hire) fF51 (by decide) q324 (Or.inl rfl) dX3_hire_86) (fun v32 => ?_)
      refine im (go_iconst (pc := 89) (Y := YX3_hire) (v := 1) dX3_hire_89 rfl) ?_
      refine im (go_iadd (pc := 90) (Y := YX3_hire) dX3_hire_90) ?_
      refine flp (go_pI (pc := 91) (Y := YX3_hire) fF51 (by decide) q324 (Or.inl rfl) (Or.inl rfl) rfl rfl rfl dX3_hire_91) (fun s33 => ?_)
      refine e1 (fun q0 => ?_)
      subst q0
      exact go_vret (pc := 94) (Y := YX3_hire) rfl dX3_hire_94
    · refine e1 (fun q0 => ?_)
      subst q0
      exact go_vret (pc := 68) (Y := YX3_hire) rfl dX3_hire_68
  clear h45
  revert he44
  refine flp2 (go_if_ne (pc := 22) (Y := YX3_hire) 46 dX3_hire_22 (by decide)) ?_ ?_
  · refine im (go_aload_n (pc := 25) (Y := YX3_hire) 1 dX3_hire_25 rfl rfl) ?_
    refine flp (go_gR (pc := 26) (Y := YX3_hire) fF1021 (by decide) q591 (Or.inl rfl) dX3_hire_26) (fun v34 => ?_)
    refine im (go_iload_n (pc := 29) (Y := YX3_hire) 0 dX3_hire_29 rfl rfl) ?_
    refine ivg (fun w35 r36 k37 => ?_)
    refine bpg (fun v38 he39 => ?_)
    refine im (go_callV (pc := 30) (Y := YX3_hire) (Yc := YX5_person) (y := yX5_person) (n := 1) (c0 := 5) (q := (RX5, TX5, 10)) w35 [iV v8] [] (by rw [r36]; rfl) rfl k37 (mX5_person s7 he39) YOK_X5_person rfl q986 q136 q984 q985 q983 (Nat.le_of_ble_eq_true rfl) (Nat.le_of_ble_eq_true rfl) (Nat.le_of_ble_eq_true rfl) dX3_hire_30 (st2 := [rV v38]) rfl) ?_
    clear he39
    refine flp (go_gI (pc := 33) (Y := YX3_hire) fF69 (by decide) q908 (Or.inl rfl) dX3_hire_33) (fun v40 => ?_)
    refine im (go_bipush (pc := 36) (Y := YX3_hire) (v := -2) dX3_hire_36 rfl) ?_
    refine flp2 (go_icmp_eq (pc := 38) (Y := YX3_hire) 46 dX3_hire_38 (by decide)) ?_ ?_
    · refine e1 (fun q0 => ?_)
      subst q0
      exact go_sub [1, 0] rfl hj46
    · refine im (go_aload_n (pc := 41) (Y := YX3_hire) 1 dX3_hire_41 rfl rfl) ?_
      refine im (go_iconst (pc := 42) (Y := YX3_hire) (v := 3) dX3_hire_42 rfl) ?_
      refine kdg (fun k41 => ?_)
      refine bpg (fun s42 he43 => ?_)
      refine im (go_callV (pc := 43) (Y := YX3_hire) (Yc := YX3_wrong) (y := yX3_wrong) (n := 1) (c0 := 3) (q := (RX3, TX3, 5)) this [iV 3] [] rfl rfl k41 (mX3_wrong s7 he43) YOK_X3_wrong rfl q694 q134 q693 qs4 q691 (Nat.le_of_ble_eq_true rfl) (Nat.le_of_ble_eq_true rfl) (Nat.le_of_ble_eq_true rfl) dX3_hire_43 (st2 := []) rfl) ?_
      clear he43
      refine e1 (fun q0 => ?_)
      subst q0
      exact go_sub [1, 0] rfl hj46
  · refine e1 (fun q0 => ?_)
    subst q0
    exact go_sub [1, 0] rfl hj46
abbrev YX3_unsure : mY := (RX3, cX3_unsure, 3, (Option.none : Option Jvm.ClassFile.FieldType), 9, 202, false)
theorem YOK_X3_unsure : YOK yX3_unsure 0 := ⟨⟨by decide +kernel, by decide +kernel⟩, by decide +kernel⟩
theorem mX3_unsure {G : gG} (s0 : St) {this : Nat} {sE : St} (h : sX3_unsure s0 this = some sE) : Mt G YX3_unsure yX3_unsure [rV (some this)] s0 none sE := by
  refine go_start (ls0 := [(0, rV (some this))]) (by decide +kernel) rfl (fun h => by cases h) (Nat.le_of_ble_eq_true rfl) rfl ?_
  revert h
  unfold sX3_unsure
  refine im (go_aload_n (pc := 0) (Y := YX3_unsure) 0 dX3_unsure_0 rfl rfl) ?_
  refine im (go_aload_n (pc := 1) (Y := YX3_unsure) 0 dX3_unsure_1 rfl rfl) ?_
  refine flp (go_gR (pc := 2) (Y := YX3_unsure) fF1021 (by decide) q591 (Or.inl rfl) dX3_unsure_2) (fun v1 => ?_)
  refine flp (go_gI (pc := 5) (Y := YX3_unsure) fF52 (by decide) q326 (Or.inl rfl) dX3_unsure_5) (fun v2 => ?_)
  refine im (go_iconst (pc := 8) (Y := YX3_unsure) (v := 4) dX3_unsure_8 rfl) ?_
  refine kdg (fun k3 => ?_)
  refine bpg (fun s4 he5 => ?_)
  refine im (go_callV (pc := 9) (Y := YX3_unsure) (Yc := YX3_begins) (y := yX3_begins) (n := 2) (c0 := 3) (q := (RX3, TX3, 5)) this [iV v2, iV 4] [] rfl rfl k3 (mX3_begins s0 he5) YOK_X3_begins rfl q737 q134 q736 qs12 q734 (Nat.le_of_ble_eq_true rfl) (Nat.le_of_ble_eq_true rfl) (Nat.le_of_ble_eq_true rfl) dX3_unsure_9 (st2 := []) rfl) ?_
  clear he5
  refine im (go_aload_n (pc := 12) (Y := YX3_unsure) 0 dX3_unsure_12 rfl rfl) ?_
  refine im (go_aload_n (pc := 13) (Y := YX3_unsure) 0 dX3_unsure_13 rfl rfl) ?_
  refine flp (go_gR (pc := 14) (Y := YX3_unsure) fF1021 (by decide) q591 (Or.inl rfl) dX3_unsure_14) (fun v6 => ?_)
  refine flp (go_gR (pc := 17) (Y := YX3_unsure) fF1025 (by decide) q336 (Or.inl rfl) dX3_unsure_17) (fun v7 => ?_)
  refine kdg (fun k8 => ?_)
  refine bdg (fun s9 v10 he11 => ?_)
  refine im (go_callV (pc := 20) (Y := YX3_unsure) (Yc := YX3_known) (y := yX3_known) (n := 1) (c0 := 3) (q := (RX3, TX3, 5)) this [rV v7] [] rfl rfl k8 (mX3_known s4 he11) YOK_X3_known rfl q851 q134 q850 qs19 q848 (Nat.le_of_ble_eq_true rfl) (Nat.le_of_ble_eq_true rfl) (Nat.le_of_ble_eq_true rfl) dX3_unsure_20 (st2 := [iV v10]) rfl) ?_
  clear he11
  refine im (go_istore_n (pc := 23) (Y := YX3_unsure) (ls2 := [(1, iV v10), (0, rV (some this))]) dX3_unsure_23 rfl (Nat.le_of_ble_eq_true rfl) rfl) ?_
  refine im (go_aload_n (pc := 24) (Y := YX3_unsure) 1 dX3_unsure_24 rfl rfl) ?_
  refine kdg (fun k12 => ?_)
  refine bpg (fun v13 he14 => ?_)
  refine im (go_callV (pc := 25) (Y := YX3_unsure) (Yc := YX3_isOver) (y := yX3_isOver) (n := 0) (c0 := 3) (q := (RX3, TX3, 5)) this [] [] rfl rfl k12 (mX3_isOver s9 he14) YOK_X3_isOver rfl q698 q134 q697 qs5 q695 (Nat.le_of_ble_eq_true rfl) (Nat.le_of_ble_eq_true rfl) (Nat.le_of_ble_eq_true rfl) dX3_unsure_25 (st2 := [iV v13]) rfl) ?_
  clear he14
  refine bpg (fun s15 he58 h59 => ?_)
  have hj50 : Go G YX3_unsure s0 sE none 50 [(0, rV (some this)), (1, iV v10)] [] s15 := by
    clear he58
    revert h59
    refine im (go_aload_n (pc := 50) (Y := YX3_unsure) 0 dX3_unsure_50 rfl rfl) ?_
    refine kdg (fun k16 => ?_)
    refine bpg (fun s17 he18 => ?_)
    refine im (go_callV (pc := 51) (Y := YX3_unsure) (Yc := YX3_on) (y := yX3_on) (n := 0) (c0 := 3) (q := (RX3, TX3, 5)) this [] [] rfl rfl k16 (mX3_on s15 he18) YOK_X3_on rfl q702 q134 q701 qs6 q699 (Nat.le_of_ble_eq_true rfl) (Nat.le_of_ble_eq_true rfl) (Nat.le_of_ble_eq_true rfl) dX3_unsure_51 (st2 := []) rfl) ?_
    clear he18
    refine im (go_aload_n (pc := 54) (Y := YX3_unsure) 0 dX3_unsure_54 rfl rfl) ?_
    refine im (go_iconst (pc := 55) (Y := YX3_unsure) (v := 0) dX3_unsure_55 rfl) ?_
    refine im (go_bipush (pc := 56) (Y := YX3_unsure) (v := 9) dX3_unsure_56 rfl) ?_
    refine kdg (fun k19 => ?_)
    refine bdg (fun s20 v21 he22 => ?_)
    refine im (go_callV (pc := 58) (Y := YX3_unsure) (Yc := YX3_whole) (y := yX3_whole) (n := 2) (c0 := 3) (q := (RX3, TX3, 5)) this [iV 0, iV 9] [] rfl rfl k19 (mX3_whole s17 he22) YOK_X3_whole rfl q720 q134 q719 qs9 q717 (Nat.le_of_ble_eq_true rfl) (Nat.le_of_ble_eq_true rfl) (Nat.le_of_ble_eq_true rfl) dX3_unsure_58 (st2 := [iV v21]) rfl) ?_
    clear he22
    refine im (go_istore_n (pc := 61) (Y := YX3_unsure) (ls2 := [(2, iV v21), (0, rV (some this)), (1, iV v10)]) dX3_unsure_61 rfl (Nat.le_of_ble_eq_true rfl) rfl) ?_
    refine im (go_aload_n (pc := 62) (Y := YX3_unsure) 1 dX3_unsure_62 rfl rfl) ?_
    refine kdg (fun k23 => ?_)
    refine bpg (fun v24 he25 => ?_)
    refine im (go_callV (pc := 63) (Y := YX3_unsure) (Yc := YX3_isOver) (y := yX3_isOver) (n := 0) (c0 := 3) (q := (RX3, TX3, 5)) this [] [] rfl rfl k23 (mX3_isOver s20 he25) YOK_X3_isOver rfl q698 q134 q697 qs5 q695 (Nat.le_of_ble_eq_true rfl) (Nat.le_of_ble_eq_true rfl) (Nat.le_of_ble_eq_true rfl) dX3_unsure_63 (st2 := [iV v24]) rfl) ?_
    clear he25
    refine flp2 (go_if_eq (pc := 66) (Y := YX3_unsure) 70 dX3_unsure_66 (by decide)) ?_ ?_
    · refine im (go_aload_n (pc := 70) (Y := YX3_unsure) 1 dX3_unsure_70 rfl rfl) ?_
      refine flp (go_gR (pc := 71) (Y := YX3_unsure) fF1021 (by decide) q591 (Or.inl rfl) dX3_unsure_71) (fun v26 => ?_)
      refine im (go_iload_n (pc := 74) (Y := YX3_unsure) 2 dX3_unsure_74 rfl rfl) ?_
      refine ivg (fun w27 r28 k29 => ?_)
      refine bpg (fun v30 he31 => ?_)
      refine im (go_callV (pc := 75) (Y := YX3_unsure) (Yc := YX5_person) (y := yX5_person) (n := 1) (c0 := 5) (q := (RX5, TX5, 10)) w27 [iV v10] [] (by rw [r28]; rfl) rfl k29 (mX5_person s20 he31) YOK_X5_person rfl q986 q136 q984 q985 q983 (Nat.le_of_ble_eq_true rfl) (Nat.le_of_ble_eq_true rfl) (Nat.le_of_ble_eq_true rfl) dX3_unsure_75 (st2 := [rV v30]) rfl) ?_
      clear he31
      refine im (go_iconst (pc := 78) (Y := YX3_unsure) (v := 1) dX3_unsure_78 rfl) ?_
      refine flp (go_pI (pc := 79) (Y := YX3_unsure) fF70 (by decide) q910 (Or.inl rfl) (Or.inl rfl) rfl rfl rfl dX3_unsure_79) (fun s32 => ?_)
      refine im (go_aload_n (pc := 82) (Y := YX3_unsure) 1 dX3_unsure_82 rfl rfl) ?_
      refine flp (go_gR (pc := 83) (Y := YX3_unsure) fF1021 (by decide) q591 (Or.inl rfl) dX3_unsure_83) (fun v33 => ?_)
      refine im (go_iload_n (pc := 86) (Y := YX3_unsure) 2 dX3_unsure_86 rfl rfl) ?_
      refine ivg (fun w34 r35 k36 => ?_)
      refine bpg (fun v37 he38 => ?_)
      refine im (go_callV (pc := 87) (Y := YX3_unsure) (Yc := YX5_person) (y := yX5_person) (n := 1) (c0 := 5) (q := (RX5, TX5, 10)) w34 [iV v10] [] (by rw [r35]; rfl) rfl k36 (mX5_person s32 he38) YOK_X5_person rfl q986 q136 q984 q985 q983 (Nat.le_of_ble_eq_true rfl) (Nat.le_of_ble_eq_true rfl) (Nat.le_of_ble_eq_true rfl) dX3_unsure_87 (st2 := [rV v37]) rfl) ?_
      clear he38
      refine im (go_iload_n (pc := 90) (Y := YX3_unsure) 0 dX3_unsure_90 rfl rfl) ?_
      refine flp (go_pI (pc := 91) (Y := YX3_unsure) fF67 (by decide) q903 (Or.inl rfl) (Or.inl rfl) rfl rfl rfl dX3_unsure_91) (fun s39 => ?_)
      refine im (go_aload_n (pc := 94) (Y := YX3_unsure) 1 dX3_unsure_94 rfl rfl) ?_
      refine flp (go_gR (pc := 95) (Y := YX3_unsure) fF1021 (by decide) q591 (Or.inl rfl) dX3_unsure_95) (fun v40 => ?_)
      refine flp (go_gR (pc := 98) (Y := YX3_unsure) fF1028 (by decide) q345 (Or.inl rfl) dX3_unsure_98) (fun v41 => ?_)
      refine im (go_aload_n (pc := 101) (Y := YX3_unsure) 1 dX3_unsure_101 rfl rfl) ?_
      refine flp (go_gR (pc := 102) (Y := YX3_unsure) fF1021 (by decide) q591 (Or.inl rfl) dX3_unsure_102) (fun v42 => ?_)
      refine flp (go_gI (pc := 105) (Y := YX3_unsure) fF52 (by decide) q326 (Or.inl rfl) dX3_unsure_105) (fun v43 => ?_)
      refine im (go_iload_n (pc := 108) (Y := YX3_unsure) 2 dX3_unsure_108 rfl rfl) ?_
      refine flp (go_tI (pc := 109) (Y := YX3_unsure) dX3_unsure_109) (fun s44 => ?_)
      refine im (go_aload_n (pc := 110) (Y := YX3_unsure) 1 dX3_unsure_110 rfl rfl) ?_
      refine flp (go_gR (pc := 111) (Y := YX3_unsure) fF1021 (by decide) q591 (Or.inl rfl) dX3_unsure_111) (fun v45 => ?_)
      refine im (go_dup (pc := 114) (Y := YX3_unsure) dX3_unsure_114 rfl) ?_
      refine flp (go_gI (pc := 115) (Y := YX3_unsure) fF52 (by decide) q326 (Or.inl rfl) dX3_unsure_115) (fun v46 => ?_)
      refine im (go_iconst (pc := 118) (Y := YX3_unsure) (v := 1) dX3_unsure_118 rfl) ?_
      refine im (go_iadd (pc := 119) (Y := YX3_unsure) dX3_unsure_119) ?_
      refine flp (go_pI (pc := 120) (Y := YX3_unsure) fF52 (by decide) q326 (Or.inl rfl) (Or.inl rfl) rfl rfl rfl dX3_unsure_120) (fun s47 => ?_)
      refine e1 (fun q0 => ?_)
      subst q0
      exact go_vret (pc := 123) (Y := YX3_unsure) rfl dX3_unsure_123
    · refine e1 (fun q0 => ?_)
      subst q0
      exact go_vret (pc := 69) (Y := YX3_unsure) rfl dX3_unsure_69
  clear h59
  revert he58
  refine flp2 (go_if_ne (pc := 28) (Y := YX3_unsure) 50 dX3_unsure_28 (by decide)) ?_ ?_
  · refine im (go_aload_n (pc := 31) (Y := YX3_unsure) 1 dX3_unsure_31 rfl rfl) ?_
    refine flp (go_gR (pc := 32) (Y := YX3_unsure) fF1021 (by decide) q591 (Or.inl rfl) dX3_unsure_32) (fun v48 => ?_)
    refine im (go_iload_n (pc := 35) (Y := YX3_unsure) 0 dX3_unsure_35 rfl rfl) ?_
    refine ivg (fun w49 r50 k51 => ?_)
    refine bpg (fun v52 he53 => ?_)
    refine im (go_callV (pc := 36) (Y := YX3_unsure) (Yc := YX5_person) (y := yX5_person) (n := 1) (c0 := 5) (q := (RX5, TX5, 10)) w49 [iV v10] [] (by rw [r50]; rfl) rfl k51 (mX5_person s9 he53) YOK_X5_person rfl q986 q136 q984 q985 q983 (Nat.le_of_ble_eq_true rfl) (Nat.le_of_ble_eq_true rfl) (Nat.le_of_ble_eq_true rfl) dX3_unsure_36 (st2 := [rV v52]) rfl) ?_
    clear he53
    refine flp (go_gI (pc := 39) (Y := YX3_unsure) fF70 (by decide) q910 (Or.inl rfl) dX3_unsure_39) (fun v54 => ?_)
    refine flp2 (go_if_eq (pc := 42) (Y := YX3_unsure) 50 dX3_unsure_42 (by decide)) ?_ ?_
    · refine e1 (fun q0 => ?_)
      subst q0
      exact go_sub [1, 0] rfl hj50
    · refine im (go_aload_n (pc := 45) (Y := YX3_unsure) 1 dX3_unsure_45 rfl rfl) ?_
      refine im (go_iconst (pc := 46) (Y := YX3_unsure) (v := 3) dX3_unsure_46 rfl) ?_
      refine kdg (fun k55 => ?_)
      refine bpg (fun s56 he57 => ?_)
      refine im (go_callV (pc := 47) (Y := YX3_unsure) (Yc := YX3_wrong) (y := yX3_wrong) (n := 1) (c0 := 3) (q := (RX3, TX3, 5)) this [iV 3] [] rfl rfl k55 (mX3_wrong s9 he57) YOK_X3_wrong rfl q694 q134 q693 qs4 q691 (Nat.le_of_ble_eq_true rfl) (Nat.le_of_ble_eq_true rfl) (Nat.le_of_ble_eq_true rfl) dX3_unsure_47 (st2 := []) rfl) ?_
      clear he57
      refine e1 (fun q0 => ?_)
      subst q0
      exact go_sub [1, 0] rfl hj50
  · refine e1 (fun q0 => ?_)
    subst q0
    exact go_sub [1, 0] rfl hj50
abbrev YX5_quarrel : mY := (RX5, cX5_quarrel, 2, (Option.some (.object "ThirdWitness$Quarrel")), 3, 64, false)
theorem YOK_X5_quarrel : YOK yX5_quarrel 1 := ⟨⟨by decide +kernel, by decide +kernel⟩, by decide +kernel⟩
theorem mX5_quarrel {G : gG} (s0 : St) {this : Nat} {p0 : Int32} {vE : Option Nat} (h : sX5_quarrel s0 this p0 = some vE) : Mt G YX5_quarrel yX5_quarrel [rV (some this), iV p0] s0 (some (rV vE)) s0 := by
  refine go_start (ls0 := [(0, rV (some this)), (1, iV p0)]) (by decide +kernel) rfl (fun h => by cases h) (Nat.le_of_ble_eq_true rfl) rfl ?_
  revert h
  unfold sX5_quarrel
  refine im (go_aload_n (pc := 0) (Y := YX5_quarrel) 0 dX5_quarrel_0 rfl rfl) ?_
  refine flp (go_gR (pc := 1) (Y := YX5_quarrel) fF1026 (by decide) q337 (Or.inl rfl) dX5_quarrel_1) (fun v1 => ?_)
  refine im (go_iload_n (pc := 4) (Y := YX5_quarrel) 1 dX5_quarrel_4 rfl rfl) ?_
  refine ivg (fun w2 r3 k4 => ?_)
  refine bpg (fun v5 he6 => ?_)
  refine im (go_callV (pc := 5) (Y := YX5_quarrel) (Yc := YJ2_get) (y := yJ2_get) (n := 1) (c0 := 1) (q := (RJ2, TJ2, 3)) w2 [iV p0] [] (by rw [r3]; rfl) rfl k4 (mJ2_get s0 he6) YOK_J2_get rfl q769 q132 q767 q768 q766 (Nat.le_of_ble_eq_true rfl) (Nat.le_of_ble_eq_true rfl) (Nat.le_of_ble_eq_true rfl) dX5_quarrel_5 (st2 := [rV v5]) rfl) ?_
  clear he6
  refine flp (go_cast (pc := 8) (Y := YX5_quarrel) (cs := [20]) (nm := "ThirdWitness$Quarrel") (by decide +kernel) q1044 dX5_quarrel_8) (fun h7 => ?_)
  revert h7
  refine e1 (fun q0 => ?_)
  subst q0
  exact go_aret (pc := 11) (Y := YX5_quarrel) rfl (Or.inl ⟨_, rfl⟩) dX5_quarrel_11
abbrev YX3_ended : mY := (RX3, cX3_ended, 3, (Option.none : Option Jvm.ClassFile.FieldType), 10, 225, false)
theorem YOK_X3_ended : YOK yX3_ended 0 := ⟨⟨by decide +kernel, by decide +kernel⟩, by decide +kernel⟩
theorem mX3_ended {G : gG} (s0 : St) {this : Nat} {sE : St} (h : sX3_ended s0 this = some sE) : Mt G YX3_ended yX3_ended [rV (some this)] s0 none sE := by
  refine go_start (ls0 := [(0, rV (some this))]) (by decide +kernel) rfl (fun h => by cases h) (Nat.le_of_ble_eq_true rfl) rfl ?_
  revert h
  unfold sX3_ended
  refine im (go_aload_n (pc := 0) (Y := YX3_ended) 0 dX3_ended_0 rfl rfl) ?_
  refine im (go_iconst (pc := 1) (Y := YX3_ended) (v := -1) dX3_ended_1 rfl) ?_
  refine im (go_iconst (pc := 2) (Y := YX3_ended) (v := 0) dX3_ended_2 rfl) ?_
  refine kdg (fun k1 => ?_)
  refine bpg (fun s2 he3 => ?_)
  refine im (go_callV (pc := 3) (Y := YX3_ended) (Yc := YX3_begins) (y := yX3_begins) (n := 2) (c0 := 3) (q := (RX3, TX3, 5)) this [iV (-1), iV 0] [] rfl rfl k1 (mX3_begins s0 he3) YOK_X3_begins rfl q737 q134 q736 qs12 q734 (Nat.le_of_ble_eq_true rfl) (Nat.le_of_ble_eq_true rfl) (Nat.le_of_ble_eq_true rfl) dX3_ended_3 (st2 := []) rfl) ?_
  clear he3
  refine im (go_aload_n (pc := 6) (Y := YX3_ended) 0 dX3_ended_6 rfl rfl) ?_
  refine im (go_aload_n (pc := 7) (Y := YX3_ended) 0 dX3_ended_7 rfl rfl) ?_
  refine flp (go_gR (pc := 8) (Y := YX3_ended) fF1021 (by decide) q591 (Or.inl rfl) dX3_ended_8) (fun v4 => ?_)
  refine flp (go_gR (pc := 11) (Y := YX3_ended) fF1026 (by decide) q339 (Or.inl rfl) dX3_ended_11) (fun v5 => ?_)
  refine kdg (fun k6 => ?_)
  refine bdg (fun s7 v8 he9 => ?_)
  refine im (go_callV (pc := 14) (Y := YX3_ended) (Yc := YX3_known) (y := yX3_known) (n := 1) (c0 := 3) (q := (RX3, TX3, 5)) this [rV v5] [] rfl rfl k6 (mX3_known s2 he9) YOK_X3_known rfl q851 q134 q850 qs19 q848 (Nat.le_of_ble_eq_true rfl) (Nat.le_of_ble_eq_true rfl) (Nat.le_of_ble_eq_true rfl) dX3_ended_14 (st2 := [iV v8]) rfl) ?_
  clear he9
  refine im (go_istore_n (pc := 17) (Y := YX3_ended) (ls2 := [(1, iV v8), (0, rV (some this))]) dX3_ended_17 rfl (Nat.le_of_ble_eq_true rfl) rfl) ?_
  refine im (go_aload_n (pc := 18) (Y := YX3_ended) 1 dX3_ended_18 rfl rfl) ?_
  refine kdg (fun k10 => ?_)
  refine bpg (fun v11 he12 => ?_)
  refine im (go_callV (pc := 19) (Y := YX3_ended) (Yc := YX3_isOver) (y := yX3_isOver) (n := 0) (c0 := 3) (q := (RX3, TX3, 5)) this [] [] rfl rfl k10 (mX3_isOver s7 he12) YOK_X3_isOver rfl q698 q134 q697 qs5 q695 (Nat.le_of_ble_eq_true rfl) (Nat.le_of_ble_eq_true rfl) (Nat.le_of_ble_eq_true rfl) dX3_ended_19 (st2 := [iV v11]) rfl) ?_
  clear he12
  refine bpg (fun s13 he44 h45 => ?_)
  have hj45 : Go G YX3_ended s0 sE none 45 [(0, rV (some this)), (1, iV v8)] [] s13 := by
    clear he44
    revert h45
    refine im (go_aload_n (pc := 45) (Y := YX3_ended) 0 dX3_ended_45 rfl rfl) ?_
    refine kdg (fun k14 => ?_)
    refine bpg (fun s15 he16 => ?_)
    refine im (go_callV (pc := 46) (Y := YX3_ended) (Yc := YX3_on) (y := yX3_on) (n := 0) (c0 := 3) (q := (RX3, TX3, 5)) this [] [] rfl rfl k14 (mX3_on s13 he16) YOK_X3_on rfl q702 q134 q701 qs6 q699 (Nat.le_of_ble_eq_true rfl) (Nat.le_of_ble_eq_true rfl) (Nat.le_of_ble_eq_true rfl) dX3_ended_46 (st2 := []) rfl) ?_
    clear he16
    refine im (go_aload_n (pc := 49) (Y := YX3_ended) 0 dX3_ended_49 rfl rfl) ?_
    refine im (go_ldcS (pc := 50) (Y := YX3_ended) (idx := 224) (i := 1) (tx := "at") (by decide +kernel) dX3_ended_50) ?_
    refine im (go_iconst (pc := 52) (Y := YX3_ended) (v := 0) dX3_ended_52 rfl) ?_
    refine im (go_bipush (pc := 53) (Y := YX3_ended) (v := 59) dX3_ended_53 rfl) ?_
    refine kdg (fun k17 => ?_)
    refine bdg (fun s18 v19 he20 => ?_)
    refine im (go_callV (pc := 55) (Y := YX3_ended) (Yc := YX3_part) (y := yX3_part) (n := 3) (c0 := 3) (q := (RX3, TX3, 5)) this [rV (s15.ks 1), iV 0, iV 59] [] rfl rfl k17 (mX3_part s15 he20) YOK_X3_part rfl q707 q134 q706 qs7 q704 (Nat.le_of_ble_eq_true rfl) (Nat.le_of_ble_eq_true rfl) (Nat.le_of_ble_eq_true rfl) dX3_ended_55 (st2 := [iV v19]) rfl) ?_
    clear he20
    refine im (go_istore_n (pc := 58) (Y := YX3_ended) (ls2 := [(2, iV v19), (0, rV (some this)), (1, iV v8)]) dX3_ended_58 rfl (Nat.le_of_ble_eq_true rfl) rfl) ?_
    refine im (go_aload_n (pc := 59) (Y := YX3_ended) 1 dX3_ended_59 rfl rfl) ?_
    refine kdg (fun k21 => ?_)
    refine bpg (fun v22 he23 => ?_)
    refine im (go_callV (pc := 60) (Y := YX3_ended) (Yc := YX3_isOver) (y := yX3_isOver) (n := 0) (c0 := 3) (q := (RX3, TX3, 5)) this [] [] rfl rfl k21 (mX3_isOver s18 he23) YOK_X3_isOver rfl q698 q134 q697 qs5 q695 (Nat.le_of_ble_eq_true rfl) (Nat.le_of_ble_eq_true rfl) (Nat.le_of_ble_eq_true rfl) dX3_ended_60 (st2 := [iV v22]) rfl) ?_
    clear he23
    refine flp2 (go_if_eq (pc := 63) (Y := YX3_ended) 67 dX3_ended_63 (by decide)) ?_ ?_
    · refine im (go_aload_n (pc := 67) (Y := YX3_ended) 1 dX3_ended_67 rfl rfl) ?_
      refine flp (go_gR (pc := 68) (Y := YX3_ended) fF1021 (by decide) q591 (Or.inl rfl) dX3_ended_68) (fun v24 => ?_)
      refine im (go_iload_n (pc := 71) (Y := YX3_ended) 2 dX3_ended_71 rfl rfl) ?_
      refine ivg (fun w25 r26 k27 => ?_)
      refine bpg (fun v28 he29 => ?_)
      refine im (go_callV (pc := 72) (Y := YX3_ended) (Yc := YX5_quarrel) (y := yX5_quarrel) (n := 1) (c0 := 5) (q := (RX5, TX5, 10)) w25 [iV v8] [] (by rw [r26]; rfl) rfl k27 (mX5_quarrel s18 he29) YOK_X5_quarrel rfl q1043 q136 q1041 q1042 q1040 (Nat.le_of_ble_eq_true rfl) (Nat.le_of_ble_eq_true rfl) (Nat.le_of_ble_eq_true rfl) dX3_ended_72 (st2 := [rV v28]) rfl) ?_
      clear he29
      refine im (go_iload_n (pc := 75) (Y := YX3_ended) 0 dX3_ended_75 rfl rfl) ?_
      refine flp (go_pI (pc := 76) (Y := YX3_ended) fF76 (by decide) q1009 (Or.inl rfl) (Or.inl rfl) rfl rfl rfl dX3_ended_76) (fun s30 => ?_)
      refine im (go_aload_n (pc := 79) (Y := YX3_ended) 1 dX3_ended_79 rfl rfl) ?_
      refine flp (go_gR (pc := 80) (Y := YX3_ended) fF1021 (by decide) q591 (Or.inl rfl) dX3_ended_80) (fun v31 => ?_)
      refine im (go_dup (pc := 83) (Y := YX3_ended) dX3_ended_83 rfl) ?_
      refine flp (go_gI (pc := 84) (Y := YX3_ended) fF53 (by decide) q328 (Or.inl rfl) dX3_ended_84) (fun v32 => ?_)
      refine im (go_iconst (pc := 87) (Y := YX3_ended) (v := 1) dX3_ended_87 rfl) ?_
      refine im (go_iadd (pc := 88) (Y := YX3_ended) dX3_ended_88) ?_
      refine flp (go_pI (pc := 89) (Y := YX3_ended) fF53 (by decide) q328 (Or.inl rfl) (Or.inl rfl) rfl rfl rfl dX3_ended_89) (fun s33 => ?_)
      refine e1 (fun q0 => ?_)
      subst q0
      exact go_vret (pc := 92) (Y := YX3_ended) rfl dX3_ended_92
    · refine e1 (fun q0 => ?_)
      subst q0
      exact go_vret (pc := 66) (Y := YX3_ended) rfl dX3_ended_66
  clear h45
  revert he44
  refine flp2 (go_if_ne (pc := 22) (Y := YX3_ended) 45 dX3_ended_22 (by decide)) ?_ ?_
  · refine im (go_aload_n (pc := 25) (Y := YX3_ended) 1 dX3_ended_25 rfl rfl) ?_
    refine flp (go_gR (pc := 26) (Y := YX3_ended) fF1021 (by decide) q591 (Or.inl rfl) dX3_ended_26) (fun v34 => ?_)
    refine im (go_iload_n (pc := 29) (Y := YX3_ended) 0 dX3_ended_29 rfl rfl) ?_
    refine ivg (fun w35 r36 k37 => ?_)
    refine bpg (fun v38 he39 => ?_)
    refine im (go_callV (pc := 30) (Y := YX3_ended) (Yc := YX5_quarrel) (y := yX5_quarrel) (n := 1) (c0 := 5) (q := (RX5, TX5, 10)) w35 [iV v8] [] (by rw [r36]; rfl) rfl k37 (mX5_quarrel s7 he39) YOK_X5_quarrel rfl q1043 q136 q1041 q1042 q1040 (Nat.le_of_ble_eq_true rfl) (Nat.le_of_ble_eq_true rfl) (Nat.le_of_ble_eq_true rfl) dX3_ended_30 (st2 := [rV v38]) rfl) ?_
    clear he39
    refine flp (go_gI (pc := 33) (Y := YX3_ended) fF76 (by decide) q1009 (Or.inl rfl) dX3_ended_33) (fun v40 => ?_)
    refine im (go_iconst (pc := 36) (Y := YX3_ended) (v := -1) dX3_ended_36 rfl) ?_
    refine flp2 (go_icmp_eq (pc := 37) (Y := YX3_ended) 45 dX3_ended_37 (by decide)) ?_ ?_
    · refine e1 (fun q0 => ?_)
      subst q0
      exact go_sub [1, 0] rfl hj45
    · refine im (go_aload_n (pc := 40) (Y := YX3_ended) 1 dX3_ended_40 rfl rfl) ?_
      refine im (go_iconst (pc := 41) (Y := YX3_ended) (v := 3) dX3_ended_41 rfl) ?_
      refine kdg (fun k41 => ?_)
      refine bpg (fun s42 he43 => ?_)
      refine im (go_callV (pc := 42) (Y := YX3_ended) (Yc := YX3_wrong) (y := yX3_wrong) (n := 1) (c0 := 3) (q := (RX3, TX3, 5)) this [iV 3] [] rfl rfl k41 (mX3_wrong s7 he43) YOK_X3_wrong rfl q694 q134 q693 qs4 q691 (Nat.le_of_ble_eq_true rfl) (Nat.le_of_ble_eq_true rfl) (Nat.le_of_ble_eq_true rfl) dX3_ended_42 (st2 := []) rfl) ?_
      clear he43
      refine e1 (fun q0 => ?_)
      subst q0
      exact go_sub [1, 0] rfl hj45
  · refine e1 (fun q0 => ?_)
    subst q0
    exact go_sub [1, 0] rfl hj45
abbrev YX3_line : mY := (RX3, cX3_line, 3, (Option.none : Option Jvm.ClassFile.FieldType), 11, 247, false)
theorem YOK_X3_line : YOK yX3_line 0 := ⟨⟨by decide +kernel, by decide +kernel⟩, by decide +kernel⟩
theorem mX3_line {G : gG} (s0 : St) {this : Nat} {sE : St} (h : sX3_line s0 this = some sE) : Mt G YX3_line yX3_line [rV (some this)] s0 none sE := by
  refine go_start (ls0 := [(0, rV (some this))]) (by decide +kernel) rfl (fun h => by cases h) (Nat.le_of_ble_eq_true rfl) rfl ?_
  revert h
  unfold sX3_line
  refine im (go_aload_n (pc := 0) (Y := YX3_line) 0 dX3_line_0 rfl rfl) ?_
  refine flp (go_gR (pc := 1) (Y := YX3_line) fF1022 (by decide) q592 (Or.inl rfl) dX3_line_1) (fun v1 => ?_)
  refine flp (go_gI (pc := 4) (Y := YX3_line) fF54 (by decide) q384 (Or.inl rfl) dX3_line_4) (fun v2 => ?_)
  refine im (go_iconst (pc := 7) (Y := YX3_line) (v := 2) dX3_line_7 rfl) ?_
  refine bpg (fun v3 he126 h127 => ?_)
  have hj23 : Go G YX3_line s0 sE none 23 [(0, rV (some this))] [rV v3] s0 := by
    clear he126
    revert h127
    refine im (go_astore_n (pc := 23) (Y := YX3_line) (ls2 := [(1, rV v3), (0, rV (some this))]) dX3_line_23 rfl (Nat.le_of_ble_eq_true rfl) rfl) ?_
    refine im (go_iconst (pc := 24) (Y := YX3_line) (v := -1) dX3_line_24 rfl) ?_
    refine im (go_istore_n (pc := 25) (Y := YX3_line) (ls2 := [(2, iV (-1)), (1, rV v3), (0, rV (some this))]) dX3_line_25 rfl (Nat.le_of_ble_eq_true rfl) rfl) ?_
    refine im (go_aload_n (pc := 26) (Y := YX3_line) 1 dX3_line_26 rfl rfl) ?_
    refine ivg (fun w4 r5 k6 => ?_)
    refine bdg (fun s7 v8 he9 => ?_)
    refine im (go_callV (pc := 27) (Y := YX3_line) (Yc := YJ5_hashCode) (y := yJ5_hashCode) (n := 0) (c0 := 8) (q := (RJ5, TJ5, 4)) w4 [] [] (by rw [r5]; rfl) rfl k6 (mJ5_hashCode s0 he9) YOK_J5_hashCode rfl q620 q140 q618 q619 q617 (Nat.le_of_ble_eq_true rfl) (Nat.le_of_ble_eq_true rfl) (Nat.le_of_ble_eq_true rfl) dX3_line_27 (st2 := [iV v8]) rfl) ?_
    clear he9
    refine bpg (fun v10 he122 h123 => ?_)
    have hj238 : Go G YX3_line s0 sE none 238 [(0, rV (some this)), (2, iV v10)] [] s7 := by
      clear he122
      revert h123
      refine im (go_iload_n (pc := 238) (Y := YX3_line) 1 dX3_line_238 rfl rfl) ?_
      refine ifg (fun c14 => ?_) (fun n15 => ?_)
      · refine im (go_tIn (pc := 239) (Y := YX3_line) 288 dX3_line_239 (by rw [c14]; decide) (by rw [c14]; decide) (off := 49) (by rw [c14]; rfl) (by decide)) ?_
        clear c14
        refine im (go_aload_n (pc := 288) (Y := YX3_line) 0 dX3_line_288 rfl rfl) ?_
        refine kdg (fun k11 => ?_)
        refine bpg (fun s12 he13 => ?_)
        refine im (go_callV (pc := 289) (Y := YX3_line) (Yc := YX3_townLine) (y := yX3_townLine) (n := 0) (c0 := 3) (q := (RX3, TX3, 5)) this [] [] rfl rfl k11 (mX3_townLine s7 he13) YOK_X3_townLine rfl q690 q134 q689 qs3 q687 (Nat.le_of_ble_eq_true rfl) (Nat.le_of_ble_eq_true rfl) (Nat.le_of_ble_eq_true rfl) dX3_line_289 (st2 := []) rfl) ?_
        clear he13
        refine im (go_goto (pc := 292) (Y := YX3_line) 356 dX3_line_292 (by decide)) ?_
        refine e1 (fun q0 => ?_)
        subst q0
        exact go_vret (pc := 356) (Y := YX3_line) rfl dX3_line_356
      refine ifg (fun c19 => ?_) (fun n20 => ?_)
      · refine im (go_tIn 295 dX3_line_239 (by rw [c19]; decide) (by rw [c19]; decide) (off := 56) (by rw [c19]; rfl) (by decide)) ?_
        clear c19
        refine im (go_aload_n (pc := 295) (Y := YX3_line) 0 dX3_line_295 rfl rfl) ?_
        refine kdg (fun k16 => ?_)
        refine bpg (fun s17 he18 => ?_)
        refine im (go_callV (pc := 296) (Y := YX3_line) (Yc := YX3_place) (y := yX3_place) (n := 0) (c0 := 3) (q := (RX3, TX3, 5)) this [] [] rfl rfl k16 (mX3_place s7 he18) YOK_X3_place rfl q729 q134 q728 qs11 q726 (Nat.le_of_ble_eq_true rfl) (Nat.le_of_ble_eq_true rfl) (Nat.le_of_ble_eq_true rfl) dX3_line_296 (st2 := []) rfl) ?_
        clear he18
        refine im (go_goto (pc := 299) (Y := YX3_line) 356 dX3_line_299 (by decide)) ?_
        refine e1 (fun q0 => ?_)
        subst q0
        exact go_vret (pc := 356) (Y := YX3_line) rfl dX3_line_356
      refine ifg (fun c24 => ?_) (fun n25 => ?_)
      · refine im (go_tIn 302 dX3_line_239 (by rw [c24]; decide) (by rw [c24]; decide) (off := 63) (by rw [c24]; rfl) (by decide)) ?_
        clear c24
        refine im (go_aload_n (pc := 302) (Y := YX3_line) 0 dX3_line_302 rfl rfl) ?_
        refine kdg (fun k21 => ?_)
        refine bpg (fun s22 he23 => ?_)
        refine im (go_callV (pc := 303) (Y := YX3_line) (Yc := YX3_sees) (y := yX3_sees) (n := 0) (c0 := 3) (q := (RX3, TX3, 5)) this [] [] rfl rfl k21 (mX3_sees s7 he23) YOK_X3_sees rfl q843 q134 q842 qs17 q840 (Nat.le_of_ble_eq_true rfl) (Nat.le_of_ble_eq_true rfl) (Nat.le_of_ble_eq_true rfl) dX3_line_303 (st2 := []) rfl) ?_
        clear he23
        refine im (go_goto (pc := 306) (Y := YX3_line) 356 dX3_line_306 (by decide)) ?_
        refine e1 (fun q0 => ?_)
        subst q0
        exact go_vret (pc := 356) (Y := YX3_line) rfl dX3_line_356
      refine ifg (fun c29 => ?_) (fun n30 => ?_)
      · refine im (go_tIn 309 dX3_line_239 (by rw [c29]; decide) (by rw [c29]; decide) (off := 70) (by rw [c29]; rfl) (by decide)) ?_
        clear c29
        refine im (go_aload_n (pc := 309) (Y := YX3_line) 0 dX3_line_309 rfl rfl) ?_
        refine kdg (fun k26 => ?_)
        refine bpg (fun s27 he28 => ?_)
        refine im (go_callV (pc := 310) (Y := YX3_line) (Yc := YX3_person) (y := yX3_person) (n := 0) (c0 := 3) (q := (RX3, TX3, 5)) this [] [] rfl rfl k26 (mX3_person s7 he28) YOK_X3_person rfl q880 q134 q879 qs20 q877 (Nat.le_of_ble_eq_true rfl) (Nat.le_of_ble_eq_true rfl) (Nat.le_of_ble_eq_true rfl) dX3_line_310 (st2 := []) rfl) ?_
        clear he28
        refine im (go_goto (pc := 313) (Y := YX3_line) 356 dX3_line_313 (by decide)) ?_
        refine e1 (fun q0 => ?_)
        subst q0
        exact go_vret (pc := 356) (Y := YX3_line) rfl dX3_line_356
      refine ifg (fun c34 => ?_) (fun n35 => ?_)
      · refine im (go_tIn 316 dX3_line_239 (by rw [c34]; decide) (by rw [c34]; decide) (off := 77) (by rw [c34]; rfl) (by decide)) ?_
        clear c34
        refine im (go_aload_n (pc := 316) (Y := YX3_line) 0 dX3_line_316 rfl rfl) ?_
        refine kdg (fun k31 => ?_)
        refine bpg (fun s32 he33 => ?_)
        refine im (go_callV (pc := 317) (Y := YX3_line) (Yc := YX3_goes) (y := yX3_goes) (n := 0) (c0 := 3) (q := (RX3, TX3, 5)) this [] [] rfl rfl k31 (mX3_goes s7 he33) YOK_X3_goes rfl q982 q134 q981 qs22 q979 (Nat.le_of_ble_eq_true rfl) (Nat.le_of_ble_eq_true rfl) (Nat.le_of_ble_eq_true rfl) dX3_line_317 (st2 := []) rfl) ?_
        clear he33
        refine im (go_goto (pc := 320) (Y := YX3_line) 356 dX3_line_320 (by decide)) ?_
        refine e1 (fun q0 => ?_)
        subst q0
        exact go_vret (pc := 356) (Y := YX3_line) rfl dX3_line_356
      refine ifg (fun c39 => ?_) (fun n40 => ?_)
      · refine im (go_tIn 323 dX3_line_239 (by rw [c39]; decide) (by rw [c39]; decide) (off := 84) (by rw [c39]; rfl) (by decide)) ?_
        clear c39
        refine im (go_aload_n (pc := 323) (Y := YX3_line) 0 dX3_line_323 rfl rfl) ?_
        refine kdg (fun k36 => ?_)
        refine bpg (fun s37 he38 => ?_)
        refine im (go_callV (pc := 324) (Y := YX3_line) (Yc := YX3_quarrel) (y := yX3_quarrel) (n := 0) (c0 := 3) (q := (RX3, TX3, 5)) this [] [] rfl rfl k36 (mX3_quarrel s7 he38) YOK_X3_quarrel rfl q991 q134 q990 qs23 q988 (Nat.le_of_ble_eq_true rfl) (Nat.le_of_ble_eq_true rfl) (Nat.le_of_ble_eq_true rfl) dX3_line_324 (st2 := []) rfl) ?_
        clear he38
        refine im (go_goto (pc := 327) (Y := YX3_line) 356 dX3_line_327 (by decide)) ?_
        refine e1 (fun q0 => ?_)
        subst q0
        exact go_vret (pc := 356) (Y := YX3_line) rfl dX3_line_356
      refine ifg (fun c44 => ?_) (fun n45 => ?_)
      · refine im (go_tIn 330 dX3_line_239 (by rw [c44]; decide) (by rw [c44]; decide) (off := 91) (by rw [c44]; rfl) (by decide)) ?_
        clear c44
        refine im (go_aload_n (pc := 330) (Y := YX3_line) 0 dX3_line_330 rfl rfl) ?_
        refine kdg (fun k41 => ?_)
        refine bpg (fun s42 he43 => ?_)
        refine im (go_callV (pc := 331) (Y := YX3_line) (Yc := YX3_hire) (y := yX3_hire) (n := 0) (c0 := 3) (q := (RX3, TX3, 5)) this [] [] rfl rfl k41 (mX3_hire s7 he43) YOK_X3_hire rfl q1030 q134 q1029 qs24 q1027 (Nat.le_of_ble_eq_true rfl) (Nat.le_of_ble_eq_true rfl) (Nat.le_of_ble_eq_true rfl) dX3_line_331 (st2 := []) rfl) ?_
        clear he43
        refine im (go_goto (pc := 334) (Y := YX3_line) 356 dX3_line_334 (by decide)) ?_
        refine e1 (fun q0 => ?_)
        subst q0
        exact go_vret (pc := 356) (Y := YX3_line) rfl dX3_line_356
      refine ifg (fun c49 => ?_) (fun n50 => ?_)
      · refine im (go_tIn 337 dX3_line_239 (by rw [c49]; decide) (by rw [c49]; decide) (off := 98) (by rw [c49]; rfl) (by decide)) ?_
        clear c49
        refine im (go_aload_n (pc := 337) (Y := YX3_line) 0 dX3_line_337 rfl rfl) ?_
        refine kdg (fun k46 => ?_)
        refine bpg (fun s47 he48 => ?_)
        refine im (go_callV (pc := 338) (Y := YX3_line) (Yc := YX3_unsure) (y := yX3_unsure) (n := 0) (c0 := 3) (q := (RX3, TX3, 5)) this [] [] rfl rfl k46 (mX3_unsure s7 he48) YOK_X3_unsure rfl q1035 q134 q1034 qs25 q1032 (Nat.le_of_ble_eq_true rfl) (Nat.le_of_ble_eq_true rfl) (Nat.le_of_ble_eq_true rfl) dX3_line_338 (st2 := []) rfl) ?_
        clear he48
        refine im (go_goto (pc := 341) (Y := YX3_line) 356 dX3_line_341 (by decide)) ?_
        refine e1 (fun q0 => ?_)
        subst q0
        exact go_vret (pc := 356) (Y := YX3_line) rfl dX3_line_356
      refine ifg (fun c54 => ?_) (fun n55 => ?_)
      · refine im (go_tIn 344 dX3_line_239 (by rw [c54]; decide) (by rw [c54]; decide) (off := 105) (by rw [c54]; rfl) (by decide)) ?_
        clear c54
        refine im (go_aload_n (pc := 344) (Y := YX3_line) 0 dX3_line_344 rfl rfl) ?_
        refine kdg (fun k51 => ?_)
        refine bpg (fun s52 he53 => ?_)
        refine im (go_callV (pc := 345) (Y := YX3_line) (Yc := YX3_ended) (y := yX3_ended) (n := 0) (c0 := 3) (q := (RX3, TX3, 5)) this [] [] rfl rfl k51 (mX3_ended s7 he53) YOK_X3_ended rfl q1039 q134 q1038 qs26 q1036 (Nat.le_of_ble_eq_true rfl) (Nat.le_of_ble_eq_true rfl) (Nat.le_of_ble_eq_true rfl) dX3_line_345 (st2 := []) rfl) ?_
        clear he53
        refine im (go_goto (pc := 348) (Y := YX3_line) 356 dX3_line_348 (by decide)) ?_
        refine e1 (fun q0 => ?_)
        subst q0
        exact go_vret (pc := 356) (Y := YX3_line) rfl dX3_line_356
      have ht : ∀ i : Nat, i < 9 → ¬ v10 = Int32.ofInt (0 + i) := by
        intro i hi
        rcases (show i = 0 ∨ i = 1 ∨ i = 2 ∨ i = 3 ∨ i = 4 ∨ i = 5 ∨ i = 6 ∨ i = 7 ∨ i = 8 by omega) with rfl | rfl | rfl | rfl | rfl | rfl | rfl | rfl | rfl
        · exact n15
        · exact n20
        · exact n25
        · exact n30
        · exact n35
        · exact n40
        · exact n45
        · exact n50
        · exact n55
      refine im (go_tOut 351 9 dX3_line_239 (by decide) ht (by decide)) ?_
      clear ht
      refine im (go_aload_n (pc := 351) (Y := YX3_line) 0 dX3_line_351 rfl rfl) ?_
      refine im (go_iconst (pc := 352) (Y := YX3_line) (v := 1) dX3_line_352 rfl) ?_
      refine kdg (fun k56 => ?_)
      refine bpg (fun s57 he58 => ?_)
      refine im (go_callV (pc := 353) (Y := YX3_line) (Yc := YX3_wrong) (y := yX3_wrong) (n := 1) (c0 := 3) (q := (RX3, TX3, 5)) this [iV 1] [] rfl rfl k56 (mX3_wrong s7 he58) YOK_X3_wrong rfl q694 q134 q693 qs4 q691 (Nat.le_of_ble_eq_true rfl) (Nat.le_of_ble_eq_true rfl) (Nat.le_of_ble_eq_true rfl) dX3_line_353 (st2 := []) rfl) ?_
      clear he58
      refine e1 (fun q0 => ?_)
      subst q0
      exact go_vret (pc := 356) (Y := YX3_line) rfl dX3_line_356
    clear h123
    revert he122
    refine ifg (fun c64 => ?_) (fun n65 => ?_)
    · refine im (go_lsw (pc := 30) (Y := YX3_line) 154 (off := 124) dX3_line_30 (by decide +kernel) (by rw [c64]; decide +kernel) (by decide)) ?_
      clear c64
      refine im (go_aload_n (pc := 154) (Y := YX3_line) 1 dX3_line_154 rfl rfl) ?_
      refine im (go_ldcS (pc := 155) (Y := YX3_line) (idx := 129) (i := 12) (tx := "person") (by decide +kernel) dX3_line_155) ?_
      refine ivg (fun w59 r60 k61 => ?_)
      refine bpg (fun v62 he63 => ?_)
      refine im (go_callV (pc := 157) (Y := YX3_line) (Yc := YJ5_equals) (y := yJ5_equals) (n := 1) (c0 := 8) (q := (RJ5, TJ5, 4)) w59 [rV (s7.ks 12)] [] (by rw [r60]; rfl) rfl k61 (mJ5_equals s7 he63) YOK_J5_equals rfl q674 q140 q672 q673 q671 (Nat.le_of_ble_eq_true rfl) (Nat.le_of_ble_eq_true rfl) (Nat.le_of_ble_eq_true rfl) dX3_line_157 (st2 := [iV v62]) rfl) ?_
      clear he63
      refine flp2 (go_if_eq (pc := 160) (Y := YX3_line) 238 dX3_line_160 (by decide)) ?_ ?_
      · refine e1 (fun q0 => ?_)
        subst q0
        exact go_sub [2, 0] rfl hj238
      · refine im (go_iconst (pc := 163) (Y := YX3_line) (v := 3) dX3_line_163 rfl) ?_
        refine im (go_istore_n (pc := 164) (Y := YX3_line) (ls2 := [(2, iV 3), (1, rV v3), (0, rV (some this))]) dX3_line_164 rfl (Nat.le_of_ble_eq_true rfl) rfl) ?_
        refine im (go_goto (pc := 165) (Y := YX3_line) 238 dX3_line_165 (by decide)) ?_
        refine e1 (fun q0 => ?_)
        subst q0
        exact go_sub [2, 0] rfl hj238
    refine ifg (fun c71 => ?_) (fun n72 => ?_)
    · refine im (go_lsw 211 (off := 181) dX3_line_30 (by decide +kernel) (by rw [c71]; decide +kernel) (by decide)) ?_
      clear c71
      refine im (go_aload_n (pc := 211) (Y := YX3_line) 1 dX3_line_211 rfl rfl) ?_
      refine im (go_ldcS (pc := 212) (Y := YX3_line) (idx := 137) (i := 18) (tx := "unsure") (by decide +kernel) dX3_line_212) ?_
      refine ivg (fun w66 r67 k68 => ?_)
      refine bpg (fun v69 he70 => ?_)
      refine im (go_callV (pc := 214) (Y := YX3_line) (Yc := YJ5_equals) (y := yJ5_equals) (n := 1) (c0 := 8) (q := (RJ5, TJ5, 4)) w66 [rV (s7.ks 18)] [] (by rw [r67]; rfl) rfl k68 (mJ5_equals s7 he70) YOK_J5_equals rfl q674 q140 q672 q673 q671 (Nat.le_of_ble_eq_true rfl) (Nat.le_of_ble_eq_true rfl) (Nat.le_of_ble_eq_true rfl) dX3_line_214 (st2 := [iV v69]) rfl) ?_
      clear he70
      refine flp2 (go_if_eq (pc := 217) (Y := YX3_line) 238 dX3_line_217 (by decide)) ?_ ?_
      · refine e1 (fun q0 => ?_)
        subst q0
        exact go_sub [2, 0] rfl hj238
      · refine im (go_bipush (pc := 220) (Y := YX3_line) (v := 7) dX3_line_220 rfl) ?_
        refine im (go_istore_n (pc := 222) (Y := YX3_line) (ls2 := [(2, iV 7), (1, rV v3), (0, rV (some this))]) dX3_line_222 rfl (Nat.le_of_ble_eq_true rfl) rfl) ?_
        refine im (go_goto (pc := 223) (Y := YX3_line) 238 dX3_line_223 (by decide)) ?_
        refine e1 (fun q0 => ?_)
        subst q0
        exact go_sub [2, 0] rfl hj238
    refine ifg (fun c78 => ?_) (fun n79 => ?_)
    · refine im (go_lsw 168 (off := 138) dX3_line_30 (by decide +kernel) (by rw [c78]; decide +kernel) (by decide)) ?_
      clear c78
      refine im (go_aload_n (pc := 168) (Y := YX3_line) 1 dX3_line_168 rfl rfl) ?_
      refine im (go_ldcS (pc := 169) (Y := YX3_line) (idx := 131) (i := 9) (tx := "goes") (by decide +kernel) dX3_line_169) ?_
      refine ivg (fun w73 r74 k75 => ?_)
      refine bpg (fun v76 he77 => ?_)
      refine im (go_callV (pc := 171) (Y := YX3_line) (Yc := YJ5_equals) (y := yJ5_equals) (n := 1) (c0 := 8) (q := (RJ5, TJ5, 4)) w73 [rV (s7.ks 9)] [] (by rw [r74]; rfl) rfl k75 (mJ5_equals s7 he77) YOK_J5_equals rfl q674 q140 q672 q673 q671 (Nat.le_of_ble_eq_true rfl) (Nat.le_of_ble_eq_true rfl) (Nat.le_of_ble_eq_true rfl) dX3_line_171 (st2 := [iV v76]) rfl) ?_
      clear he77
      refine flp2 (go_if_eq (pc := 174) (Y := YX3_line) 238 dX3_line_174 (by decide)) ?_ ?_
      · refine e1 (fun q0 => ?_)
        subst q0
        exact go_sub [2, 0] rfl hj238
      · refine im (go_iconst (pc := 177) (Y := YX3_line) (v := 4) dX3_line_177 rfl) ?_
        refine im (go_istore_n (pc := 178) (Y := YX3_line) (ls2 := [(2, iV 4), (1, rV v3), (0, rV (some this))]) dX3_line_178 rfl (Nat.le_of_ble_eq_true rfl) rfl) ?_
        refine im (go_goto (pc := 179) (Y := YX3_line) 238 dX3_line_179 (by decide)) ?_
        refine e1 (fun q0 => ?_)
        subst q0
        exact go_sub [2, 0] rfl hj238
    refine ifg (fun c85 => ?_) (fun n86 => ?_)
    · refine im (go_lsw 196 (off := 166) dX3_line_30 (by decide +kernel) (by rw [c85]; decide +kernel) (by decide)) ?_
      clear c85
      refine im (go_aload_n (pc := 196) (Y := YX3_line) 1 dX3_line_196 rfl rfl) ?_
      refine im (go_ldcS (pc := 197) (Y := YX3_line) (idx := 135) (i := 10) (tx := "hire") (by decide +kernel) dX3_line_197) ?_
      refine ivg (fun w80 r81 k82 => ?_)
      refine bpg (fun v83 he84 => ?_)
      refine im (go_callV (pc := 199) (Y := YX3_line) (Yc := YJ5_equals) (y := yJ5_equals) (n := 1) (c0 := 8) (q := (RJ5, TJ5, 4)) w80 [rV (s7.ks 10)] [] (by rw [r81]; rfl) rfl k82 (mJ5_equals s7 he84) YOK_J5_equals rfl q674 q140 q672 q673 q671 (Nat.le_of_ble_eq_true rfl) (Nat.le_of_ble_eq_true rfl) (Nat.le_of_ble_eq_true rfl) dX3_line_199 (st2 := [iV v83]) rfl) ?_
      clear he84
      refine flp2 (go_if_eq (pc := 202) (Y := YX3_line) 238 dX3_line_202 (by decide)) ?_ ?_
      · refine e1 (fun q0 => ?_)
        subst q0
        exact go_sub [2, 0] rfl hj238
      · refine im (go_bipush (pc := 205) (Y := YX3_line) (v := 6) dX3_line_205 rfl) ?_
        refine im (go_istore_n (pc := 207) (Y := YX3_line) (ls2 := [(2, iV 6), (1, rV v3), (0, rV (some this))]) dX3_line_207 rfl (Nat.le_of_ble_eq_true rfl) rfl) ?_
        refine im (go_goto (pc := 208) (Y := YX3_line) 238 dX3_line_208 (by decide)) ?_
        refine e1 (fun q0 => ?_)
        subst q0
        exact go_sub [2, 0] rfl hj238
    refine ifg (fun c92 => ?_) (fun n93 => ?_)
    · refine im (go_lsw 140 (off := 110) dX3_line_30 (by decide +kernel) (by rw [c92]; decide +kernel) (by decide)) ?_
      clear c92
      refine im (go_aload_n (pc := 140) (Y := YX3_line) 1 dX3_line_140 rfl rfl) ?_
      refine im (go_ldcS (pc := 141) (Y := YX3_line) (idx := 127) (i := 16) (tx := "sees") (by decide +kernel) dX3_line_141) ?_
      refine ivg (fun w87 r88 k89 => ?_)
      refine bpg (fun v90 he91 => ?_)
      refine im (go_callV (pc := 143) (Y := YX3_line) (Yc := YJ5_equals) (y := yJ5_equals) (n := 1) (c0 := 8) (q := (RJ5, TJ5, 4)) w87 [rV (s7.ks 16)] [] (by rw [r88]; rfl) rfl k89 (mJ5_equals s7 he91) YOK_J5_equals rfl q674 q140 q672 q673 q671 (Nat.le_of_ble_eq_true rfl) (Nat.le_of_ble_eq_true rfl) (Nat.le_of_ble_eq_true rfl) dX3_line_143 (st2 := [iV v90]) rfl) ?_
      clear he91
      refine flp2 (go_if_eq (pc := 146) (Y := YX3_line) 238 dX3_line_146 (by decide)) ?_ ?_
      · refine e1 (fun q0 => ?_)
        subst q0
        exact go_sub [2, 0] rfl hj238
      · refine im (go_iconst (pc := 149) (Y := YX3_line) (v := 2) dX3_line_149 rfl) ?_
        refine im (go_istore_n (pc := 150) (Y := YX3_line) (ls2 := [(2, iV 2), (1, rV v3), (0, rV (some this))]) dX3_line_150 rfl (Nat.le_of_ble_eq_true rfl) rfl) ?_
        refine im (go_goto (pc := 151) (Y := YX3_line) 238 dX3_line_151 (by decide)) ?_
        refine e1 (fun q0 => ?_)
        subst q0
        exact go_sub [2, 0] rfl hj238
    refine ifg (fun c99 => ?_) (fun n100 => ?_)
    · refine im (go_lsw 112 (off := 82) dX3_line_30 (by decide +kernel) (by rw [c99]; decide +kernel) (by decide)) ?_
      clear c99
      refine im (go_aload_n (pc := 112) (Y := YX3_line) 1 dX3_line_112 rfl rfl) ?_
      refine im (go_ldcS (pc := 113) (Y := YX3_line) (idx := 121) (i := 17) (tx := "town") (by decide +kernel) dX3_line_113) ?_
      refine ivg (fun w94 r95 k96 => ?_)
      refine bpg (fun v97 he98 => ?_)
      refine im (go_callV (pc := 115) (Y := YX3_line) (Yc := YJ5_equals) (y := yJ5_equals) (n := 1) (c0 := 8) (q := (RJ5, TJ5, 4)) w94 [rV (s7.ks 17)] [] (by rw [r95]; rfl) rfl k96 (mJ5_equals s7 he98) YOK_J5_equals rfl q674 q140 q672 q673 q671 (Nat.le_of_ble_eq_true rfl) (Nat.le_of_ble_eq_true rfl) (Nat.le_of_ble_eq_true rfl) dX3_line_115 (st2 := [iV v97]) rfl) ?_
      clear he98
      refine flp2 (go_if_eq (pc := 118) (Y := YX3_line) 238 dX3_line_118 (by decide)) ?_ ?_
      · refine e1 (fun q0 => ?_)
        subst q0
        exact go_sub [2, 0] rfl hj238
      · refine im (go_iconst (pc := 121) (Y := YX3_line) (v := 0) dX3_line_121 rfl) ?_
        refine im (go_istore_n (pc := 122) (Y := YX3_line) (ls2 := [(2, iV 0), (1, rV v3), (0, rV (some this))]) dX3_line_122 rfl (Nat.le_of_ble_eq_true rfl) rfl) ?_
        refine im (go_goto (pc := 123) (Y := YX3_line) 238 dX3_line_123 (by decide)) ?_
        refine e1 (fun q0 => ?_)
        subst q0
        exact go_sub [2, 0] rfl hj238
    refine ifg (fun c106 => ?_) (fun n107 => ?_)
    · refine im (go_lsw 226 (off := 196) dX3_line_30 (by decide +kernel) (by rw [c106]; decide +kernel) (by decide)) ?_
      clear c106
      refine im (go_aload_n (pc := 226) (Y := YX3_line) 1 dX3_line_226 rfl rfl) ?_
      refine im (go_ldcS (pc := 227) (Y := YX3_line) (idx := 139) (i := 6) (tx := "ended") (by decide +kernel) dX3_line_227) ?_
      refine ivg (fun w101 r102 k103 => ?_)
      refine bpg (fun v104 he105 => ?_)
      refine im (go_callV (pc := 229) (Y := YX3_line) (Yc := YJ5_equals) (y := yJ5_equals) (n := 1) (c0 := 8) (q := (RJ5, TJ5, 4)) w101 [rV (s7.ks 6)] [] (by rw [r102]; rfl) rfl k103 (mJ5_equals s7 he105) YOK_J5_equals rfl q674 q140 q672 q673 q671 (Nat.le_of_ble_eq_true rfl) (Nat.le_of_ble_eq_true rfl) (Nat.le_of_ble_eq_true rfl) dX3_line_229 (st2 := [iV v104]) rfl) ?_
      clear he105
      refine flp2 (go_if_eq (pc := 232) (Y := YX3_line) 238 dX3_line_232 (by decide)) ?_ ?_
      · refine e1 (fun q0 => ?_)
        subst q0
        exact go_sub [2, 0] rfl hj238
      · refine im (go_bipush (pc := 235) (Y := YX3_line) (v := 8) dX3_line_235 rfl) ?_
        refine im (go_istore_n (pc := 237) (Y := YX3_line) (ls2 := [(2, iV 8), (1, rV v3), (0, rV (some this))]) dX3_line_237 rfl (Nat.le_of_ble_eq_true rfl) rfl) ?_
        refine e1 (fun q0 => ?_)
        subst q0
        exact go_sub [2, 0] rfl hj238
    refine ifg (fun c113 => ?_) (fun n114 => ?_)
    · refine im (go_lsw 126 (off := 96) dX3_line_30 (by decide +kernel) (by rw [c113]; decide +kernel) (by decide)) ?_
      clear c113
      refine im (go_aload_n (pc := 126) (Y := YX3_line) 1 dX3_line_126 rfl rfl) ?_
      refine im (go_ldcS (pc := 127) (Y := YX3_line) (idx := 126) (i := 13) (tx := "place") (by decide +kernel) dX3_line_127) ?_
      refine ivg (fun w108 r109 k110 => ?_)
      refine bpg (fun v111 he112 => ?_)
      refine im (go_callV (pc := 129) (Y := YX3_line) (Yc := YJ5_equals) (y := yJ5_equals) (n := 1) (c0 := 8) (q := (RJ5, TJ5, 4)) w108 [rV (s7.ks 13)] [] (by rw [r109]; rfl) rfl k110 (mJ5_equals s7 he112) YOK_J5_equals rfl q674 q140 q672 q673 q671 (Nat.le_of_ble_eq_true rfl) (Nat.le_of_ble_eq_true rfl) (Nat.le_of_ble_eq_true rfl) dX3_line_129 (st2 := [iV v111]) rfl) ?_
      clear he112
      refine flp2 (go_if_eq (pc := 132) (Y := YX3_line) 238 dX3_line_132 (by decide)) ?_ ?_
      · refine e1 (fun q0 => ?_)
        subst q0
        exact go_sub [2, 0] rfl hj238
      · refine im (go_iconst (pc := 135) (Y := YX3_line) (v := 1) dX3_line_135 rfl) ?_
        refine im (go_istore_n (pc := 136) (Y := YX3_line) (ls2 := [(2, iV 1), (1, rV v3), (0, rV (some this))]) dX3_line_136 rfl (Nat.le_of_ble_eq_true rfl) rfl) ?_
        refine im (go_goto (pc := 137) (Y := YX3_line) 238 dX3_line_137 (by decide)) ?_
        refine e1 (fun q0 => ?_)
        subst q0
        exact go_sub [2, 0] rfl hj238
    refine ifg (fun c120 => ?_) (fun n121 => ?_)
    · refine im (go_lsw 182 (off := 152) dX3_line_30 (by decide +kernel) (by rw [c120]; decide +kernel) (by decide)) ?_
      clear c120
      refine im (go_aload_n (pc := 182) (Y := YX3_line) 1 dX3_line_182 rfl rfl) ?_
      refine im (go_ldcS (pc := 183) (Y := YX3_line) (idx := 133) (i := 15) (tx := "quarrel") (by decide +kernel) dX3_line_183) ?_
      refine ivg (fun w115 r116 k117 => ?_)
      refine bpg (fun v118 he119 => ?_)
      refine im (go_callV (pc := 185) (Y := YX3_line) (Yc := YJ5_equals) (y := yJ5_equals) (n := 1) (c0 := 8) (q := (RJ5, TJ5, 4)) w115 [rV (s7.ks 15)] [] (by rw [r116]; rfl) rfl k117 (mJ5_equals s7 he119) YOK_J5_equals rfl q674 q140 q672 q673 q671 (Nat.le_of_ble_eq_true rfl) (Nat.le_of_ble_eq_true rfl) (Nat.le_of_ble_eq_true rfl) dX3_line_185 (st2 := [iV v118]) rfl) ?_
      clear he119
      refine flp2 (go_if_eq (pc := 188) (Y := YX3_line) 238 dX3_line_188 (by decide)) ?_ ?_
      · refine e1 (fun q0 => ?_)
        subst q0
        exact go_sub [2, 0] rfl hj238
      · refine im (go_iconst (pc := 191) (Y := YX3_line) (v := 5) dX3_line_191 rfl) ?_
        refine im (go_istore_n (pc := 192) (Y := YX3_line) (ls2 := [(2, iV 5), (1, rV v3), (0, rV (some this))]) dX3_line_192 rfl (Nat.le_of_ble_eq_true rfl) rfl) ?_
        refine im (go_goto (pc := 193) (Y := YX3_line) 238 dX3_line_193 (by decide)) ?_
        refine e1 (fun q0 => ?_)
        subst q0
        exact go_sub [2, 0] rfl hj238
    refine im (go_lsw 238 (off := 208) dX3_line_30 (by decide +kernel) (lsw_o (List.forall_mem_cons.mpr ⟨n65, List.forall_mem_cons.mpr ⟨n72, List.forall_mem_cons.mpr ⟨n79, List.forall_mem_cons.mpr ⟨n86, List.forall_mem_cons.mpr ⟨n93, List.forall_mem_cons.mpr ⟨n100, List.forall_mem_cons.mpr ⟨n107, List.forall_mem_cons.mpr ⟨n114, List.forall_mem_cons.mpr ⟨n121, fun _ h => by cases h⟩⟩⟩⟩⟩⟩⟩⟩⟩)) (by decide)) ?_
    refine e1 (fun q0 => ?_)
    subst q0
    exact go_sub [2, 0] rfl hj238
  clear h127
  revert he126
  refine flp2 (go_icmp_ne (pc := 8) (Y := YX3_line) 21 dX3_line_8 (by decide)) ?_ ?_
  · refine im (go_aload_n (pc := 11) (Y := YX3_line) 0 dX3_line_11 rfl rfl) ?_
    refine flp (go_gR (pc := 12) (Y := YX3_line) fF1022 (by decide) q592 (Or.inl rfl) dX3_line_12) (fun v124 => ?_)
    refine flp (go_gR (pc := 15) (Y := YX3_line) fF1029 (by decide) q390 (Or.inl rfl) dX3_line_15) (fun v125 => ?_)
    refine im (go_goto (pc := 18) (Y := YX3_line) 23 dX3_line_18 (by decide)) ?_
    refine e1 (fun q0 => ?_)
    subst q0
    exact go_sub [0] rfl hj23
  · refine im (go_ldcS (pc := 21) (Y := YX3_line) (idx := 113) (i := 0) (tx := "") (by decide +kernel) dX3_line_21) ?_
    refine e1 (fun q0 => ?_)
    subst q0
    exact go_sub [0] rfl hj23
abbrev YX3_eatsSemicolon : mY := (RX3, cX3_eatsSemicolon, 1, (Option.some .boolean), 8, 179, false)
theorem YOK_X3_eatsSemicolon : YOK yX3_eatsSemicolon 0 := ⟨⟨by decide +kernel, by decide +kernel⟩, by decide +kernel⟩
theorem mX3_eatsSemicolon {G : gG} (s0 : St) {this : Nat} {sE : St} {vE : Int32} (h : sX3_eatsSemicolon s0 this = some (sE, vE)) : Mt G YX3_eatsSemicolon yX3_eatsSemicolon [rV (some this)] s0 (some (iV vE)) sE := by
  refine go_start (ls0 := [(0, rV (some this))]) (by decide +kernel) rfl (fun h => by cases h) (Nat.le_of_ble_eq_true rfl) rfl ?_
  revert h
  unfold sX3_eatsSemicolon
  refine im (go_aload_n (pc := 0) (Y := YX3_eatsSemicolon) 0 dX3_eatsSemicolon_0 rfl rfl) ?_
  refine kdg (fun k1 => ?_)
  refine bpg (fun v2 he3 => ?_)
  refine im (go_callV (pc := 1) (Y := YX3_eatsSemicolon) (Yc := YX3_isOver) (y := yX3_isOver) (n := 0) (c0 := 3) (q := (RX3, TX3, 5)) this [] [] rfl rfl k1 (mX3_isOver s0 he3) YOK_X3_isOver rfl q698 q134 q697 qs5 q695 (Nat.le_of_ble_eq_true rfl) (Nat.le_of_ble_eq_true rfl) (Nat.le_of_ble_eq_true rfl) dX3_eatsSemicolon_1 (st2 := [iV v2]) rfl) ?_
  clear he3
  refine flp2 (go_if_ne (pc := 4) (Y := YX3_eatsSemicolon) 18 dX3_eatsSemicolon_4 (by decide)) ?_ ?_
  · refine im (go_aload_n (pc := 7) (Y := YX3_eatsSemicolon) 0 dX3_eatsSemicolon_7 rfl rfl) ?_
    refine flp (go_gR (pc := 8) (Y := YX3_eatsSemicolon) fF1022 (by decide) q592 (Or.inl rfl) dX3_eatsSemicolon_8) (fun v4 => ?_)
    refine flp (go_gI (pc := 11) (Y := YX3_eatsSemicolon) fF54 (by decide) q384 (Or.inl rfl) dX3_eatsSemicolon_11) (fun v5 => ?_)
    refine im (go_iconst (pc := 14) (Y := YX3_eatsSemicolon) (v := 4) dX3_eatsSemicolon_14 rfl) ?_
    refine flp2 (go_icmp_eq (pc := 15) (Y := YX3_eatsSemicolon) 20 dX3_eatsSemicolon_15 (by decide)) ?_ ?_
    · refine im (go_aload_n (pc := 20) (Y := YX3_eatsSemicolon) 0 dX3_eatsSemicolon_20 rfl rfl) ?_
      refine kdg (fun k6 => ?_)
      refine bpg (fun s7 he8 => ?_)
      refine im (go_callV (pc := 21) (Y := YX3_eatsSemicolon) (Yc := YX3_on) (y := yX3_on) (n := 0) (c0 := 3) (q := (RX3, TX3, 5)) this [] [] rfl rfl k6 (mX3_on s0 he8) YOK_X3_on rfl q702 q134 q701 qs6 q699 (Nat.le_of_ble_eq_true rfl) (Nat.le_of_ble_eq_true rfl) (Nat.le_of_ble_eq_true rfl) dX3_eatsSemicolon_21 (st2 := []) rfl) ?_
      clear he8
      refine im (go_iconst (pc := 24) (Y := YX3_eatsSemicolon) (v := 1) dX3_eatsSemicolon_24 rfl) ?_
      refine e2 (fun q0 q1 => ?_)
      subst q0
      subst q1
      exact go_zret (pc := 25) (Y := YX3_eatsSemicolon) rfl rfl dX3_eatsSemicolon_25
    · refine im (go_iconst (pc := 18) (Y := YX3_eatsSemicolon) (v := 0) dX3_eatsSemicolon_18 rfl) ?_
      refine e2 (fun q0 q1 => ?_)
      subst q0
      subst q1
      exact go_zret (pc := 19) (Y := YX3_eatsSemicolon) rfl rfl dX3_eatsSemicolon_19
  · refine im (go_iconst (pc := 18) (Y := YX3_eatsSemicolon) (v := 0) dX3_eatsSemicolon_18 rfl) ?_
    refine e2 (fun q0 q1 => ?_)
    subst q0
    subst q1
    exact go_zret (pc := 19) (Y := YX3_eatsSemicolon) rfl rfl dX3_eatsSemicolon_19
abbrev YX3_read : mY := (RX3, cX3_read, 1, (Option.some (.object "ThirdWitness$Town")), 12, 269, false)
theorem YOK_X3_read : YOK yX3_read 0 := ⟨⟨by decide +kernel, by decide +kernel⟩, by decide +kernel⟩
theorem sX3_read_L0_go {G : gG} {s0 sE : St} {rE : Option V3} (this : Nat) : ∀ (n : Nat) (s1 : St) (s2 : St), sX3_read_L0 this n s1 = some s2 → Go G YX3_read s0 sE rE 11 [(0, rV (some this))] [] s2 → Go G YX3_read s0 sE rE 0 [(0, rV (some this))] [] s1 := by
  intro n
  induction n with
  | zero => intro s1 s2 h hx; rw [sX3_read_L0] at h; cases h
  | succ n ih =>
    intro s1 s2 h hx
    revert h
    rw [sX3_read_L0]
    refine im (go_aload_n (pc := 0) (Y := YX3_read) 0 dX3_read_0 rfl rfl) ?_
    refine kdg (fun k3 => ?_)
    refine bpg (fun s4 he5 => ?_)
    refine im (go_callV (pc := 1) (Y := YX3_read) (Yc := YX3_line) (y := yX3_line) (n := 0) (c0 := 3) (q := (RX3, TX3, 5)) this [] [] rfl rfl k3 (mX3_line s1 he5) YOK_X3_line rfl q615 q134 q614 qs2 q612 (Nat.le_of_ble_eq_true rfl) (Nat.le_of_ble_eq_true rfl) (Nat.le_of_ble_eq_true rfl) dX3_read_1 (st2 := []) rfl) ?_
    clear he5
    refine im (go_aload_n (pc := 4) (Y := YX3_read) 0 dX3_read_4 rfl rfl) ?_
    refine kdg (fun k6 => ?_)
    refine bdg (fun s7 v8 he9 => ?_)
    refine im (go_callV (pc := 5) (Y := YX3_read) (Yc := YX3_eatsSemicolon) (y := yX3_eatsSemicolon) (n := 0) (c0 := 3) (q := (RX3, TX3, 5)) this [] [] rfl rfl k6 (mX3_eatsSemicolon s4 he9) YOK_X3_eatsSemicolon rfl q1048 q134 q1047 qs27 q1045 (Nat.le_of_ble_eq_true rfl) (Nat.le_of_ble_eq_true rfl) (Nat.le_of_ble_eq_true rfl) dX3_read_5 (st2 := [iV v8]) rfl) ?_
    clear he9
    refine flp2 (go_if_ne (pc := 8) (Y := YX3_read) 0 dX3_read_8 (by decide)) ?_ ?_
    · refine e1 (fun q0 => ?_)
      subst q0
      exact go_sub [0] rfl hx
    · exact fun hq => go_sub [0] rfl (ih _ _ hq hx)
theorem mX3_read {G : gG} (s0 : St) {this : Nat} {sE : St} {vE : Option Nat} (h : sX3_read s0 this = some (sE, vE)) : Mt G YX3_read yX3_read [rV (some this)] s0 (some (rV vE)) sE := by
  refine go_start (ls0 := [(0, rV (some this))]) (by decide +kernel) rfl (fun h => by cases h) (Nat.le_of_ble_eq_true rfl) rfl ?_
  revert h
  unfold sX3_read
  refine bpg (fun s10 he41 h42 => ?_)
  refine go_sub [0] rfl (sX3_read_L0_go this FU _ _ he41 ?_)
  clear he41
  revert h42
  refine im (go_aload_n (pc := 11) (Y := YX3_read) 0 dX3_read_11 rfl rfl) ?_
  refine flp (go_gR (pc := 12) (Y := YX3_read) fF1022 (by decide) q592 (Or.inl rfl) dX3_read_12) (fun v11 => ?_)
  refine flp (go_gI (pc := 15) (Y := YX3_read) fF54 (by decide) q384 (Or.inl rfl) dX3_read_15) (fun v12 => ?_)
  refine im (go_iconst (pc := 18) (Y := YX3_read) (v := 1) dX3_read_18 rfl) ?_
  refine bpg (fun s13 he39 h40 => ?_)
  have hj27 : Go G YX3_read s0 sE (some (rV vE)) 27 [(0, rV (some this))] [] s13 := by
    clear he39
    revert h40
    refine im (go_aload_n (pc := 27) (Y := YX3_read) 0 dX3_read_27 rfl rfl) ?_
    refine flp (go_gR (pc := 28) (Y := YX3_read) fF1021 (by decide) q591 (Or.inl rfl) dX3_read_28) (fun v14 => ?_)
    refine flp (go_gI (pc := 31) (Y := YX3_read) fF49 (by decide) q320 (Or.inl rfl) dX3_read_31) (fun v15 => ?_)
    refine im (go_iconst (pc := 34) (Y := YX3_read) (v := -1) dX3_read_34 rfl) ?_
    refine bpg (fun s16 he34 h35 => ?_)
    have hj57 : Go G YX3_read s0 sE (some (rV vE)) 57 [(0, rV (some this))] [] s16 := by
      clear he34
      revert h35
      refine im (go_aload_n (pc := 57) (Y := YX3_read) 0 dX3_read_57 rfl rfl) ?_
      refine kdg (fun k17 => ?_)
      refine bpg (fun v18 he19 => ?_)
      refine im (go_callV (pc := 58) (Y := YX3_read) (Yc := YX3_isOver) (y := yX3_isOver) (n := 0) (c0 := 3) (q := (RX3, TX3, 5)) this [] [] rfl rfl k17 (mX3_isOver s16 he19) YOK_X3_isOver rfl q698 q134 q697 qs5 q695 (Nat.le_of_ble_eq_true rfl) (Nat.le_of_ble_eq_true rfl) (Nat.le_of_ble_eq_true rfl) dX3_read_58 (st2 := [iV v18]) rfl) ?_
      clear he19
      refine flp2 (go_if_eq (pc := 61) (Y := YX3_read) 68 dX3_read_61 (by decide)) ?_ ?_
      · refine im (go_aload_n (pc := 68) (Y := YX3_read) 0 dX3_read_68 rfl rfl) ?_
        refine flp (go_gR (pc := 69) (Y := YX3_read) fF1021 (by decide) q591 (Or.inl rfl) dX3_read_69) (fun v20 => ?_)
        refine e2 (fun q0 q1 => ?_)
        subst q0
        subst q1
        exact go_aret (pc := 72) (Y := YX3_read) rfl (Or.inl ⟨_, rfl⟩) dX3_read_72
      · refine im (go_null (pc := 64) (Y := YX3_read) dX3_read_64) ?_
        refine im (go_goto (pc := 65) (Y := YX3_read) 72 dX3_read_65 (by decide)) ?_
        refine e2 (fun q0 q1 => ?_)
        subst q0
        subst q1
        exact go_aret (pc := 72) (Y := YX3_read) rfl (Or.inl ⟨_, rfl⟩) dX3_read_72
    clear h35
    revert he34
    refine flp2 (go_icmp_eq (pc := 35) (Y := YX3_read) 51 dX3_read_35 (by decide)) ?_ ?_
    · refine im (go_aload_n (pc := 51) (Y := YX3_read) 0 dX3_read_51 rfl rfl) ?_
      refine im (go_bipush (pc := 52) (Y := YX3_read) (v := 6) dX3_read_52 rfl) ?_
      refine kdg (fun k21 => ?_)
      refine bpg (fun s22 he23 => ?_)
      refine im (go_callV (pc := 54) (Y := YX3_read) (Yc := YX3_wrong) (y := yX3_wrong) (n := 1) (c0 := 3) (q := (RX3, TX3, 5)) this [iV 6] [] rfl rfl k21 (mX3_wrong s13 he23) YOK_X3_wrong rfl q694 q134 q693 qs4 q691 (Nat.le_of_ble_eq_true rfl) (Nat.le_of_ble_eq_true rfl) (Nat.le_of_ble_eq_true rfl) dX3_read_54 (st2 := []) rfl) ?_
      clear he23
      refine e1 (fun q0 => ?_)
      subst q0
      exact go_sub [0] rfl hj57
    · refine im (go_aload_n (pc := 38) (Y := YX3_read) 0 dX3_read_38 rfl rfl) ?_
      refine flp (go_gR (pc := 39) (Y := YX3_read) fF1021 (by decide) q591 (Or.inl rfl) dX3_read_39) (fun v24 => ?_)
      refine flp (go_gR (pc := 42) (Y := YX3_read) fF1024 (by decide) q331 (Or.inl rfl) dX3_read_42) (fun v25 => ?_)
      refine ivg (fun w26 r27 k28 => ?_)
      refine bpg (fun v29 he30 => ?_)
      refine im (go_callV (pc := 45) (Y := YX3_read) (Yc := YJ2_isEmpty) (y := yJ2_isEmpty) (n := 0) (c0 := 1) (q := (RJ2, TJ2, 3)) w26 [] [] (by rw [r27]; rfl) rfl k28 (mJ2_isEmpty s13 he30) YOK_J2_isEmpty rfl q1052 q132 q1050 q1051 q1049 (Nat.le_of_ble_eq_true rfl) (Nat.le_of_ble_eq_true rfl) (Nat.le_of_ble_eq_true rfl) dX3_read_45 (st2 := [iV v29]) rfl) ?_
      clear he30
      refine flp2 (go_if_eq (pc := 48) (Y := YX3_read) 57 dX3_read_48 (by decide)) ?_ ?_
      · refine e1 (fun q0 => ?_)
        subst q0
        exact go_sub [0] rfl hj57
      · refine im (go_aload_n (pc := 51) (Y := YX3_read) 0 dX3_read_51 rfl rfl) ?_
        refine im (go_bipush (pc := 52) (Y := YX3_read) (v := 6) dX3_read_52 rfl) ?_
        refine kdg (fun k31 => ?_)
        refine bpg (fun s32 he33 => ?_)
        refine im (go_callV (pc := 54) (Y := YX3_read) (Yc := YX3_wrong) (y := yX3_wrong) (n := 1) (c0 := 3) (q := (RX3, TX3, 5)) this [iV 6] [] rfl rfl k31 (mX3_wrong s13 he33) YOK_X3_wrong rfl q694 q134 q693 qs4 q691 (Nat.le_of_ble_eq_true rfl) (Nat.le_of_ble_eq_true rfl) (Nat.le_of_ble_eq_true rfl) dX3_read_54 (st2 := []) rfl) ?_
        clear he33
        refine e1 (fun q0 => ?_)
        subst q0
        exact go_sub [0] rfl hj57
  clear h40
  revert he39
  refine flp2 (go_icmp_eq (pc := 19) (Y := YX3_read) 27 dX3_read_19 (by decide)) ?_ ?_
  · refine e1 (fun q0 => ?_)
    subst q0
    exact go_sub [0] rfl hj27
  · refine im (go_aload_n (pc := 22) (Y := YX3_read) 0 dX3_read_22 rfl rfl) ?_
    refine im (go_iconst (pc := 23) (Y := YX3_read) (v := 1) dX3_read_23 rfl) ?_
    refine kdg (fun k36 => ?_)
    refine bpg (fun s37 he38 => ?_)
    refine im (go_callV (pc := 24) (Y := YX3_read) (Yc := YX3_wrong) (y := yX3_wrong) (n := 1) (c0 := 3) (q := (RX3, TX3, 5)) this [iV 1] [] rfl rfl k36 (mX3_wrong s10 he38) YOK_X3_wrong rfl q694 q134 q693 qs4 q691 (Nat.le_of_ble_eq_true rfl) (Nat.le_of_ble_eq_true rfl) (Nat.le_of_ble_eq_true rfl) dX3_read_24 (st2 := []) rfl) ?_
    clear he38
    refine e1 (fun q0 => ?_)
    subst q0
    exact go_sub [0] rfl hj27
abbrev YX14_init : mY := (RX14, cX14_init, 2, (Option.none : Option Jvm.ClassFile.FieldType), 1, 26, true)
theorem YOK_X14_init : YOK yX14_init 1 := ⟨⟨by decide +kernel, by decide +kernel⟩, by decide +kernel⟩
theorem mX14_init {G : gG} (s0 : St) {this : Nat} {p0 : Option Nat} {sE : St} (h : sX14_init s0 this p0 = some sE) : Mt G YX14_init yX14_init [rV (some this), rV p0] s0 none sE := by
  refine go_start (ls0 := [(0, rV (some this)), (1, rV p0)]) (by decide +kernel) rfl (fun _ => rfl) (Nat.le_of_ble_eq_true rfl) rfl ?_
  revert h
  unfold sX14_init
  refine im (go_aload_n (pc := 0) (Y := YX14_init) 0 dX14_init_0 rfl rfl) ?_
  refine im (go_objI (pc := 1) (Y := YX14_init) q1058 (Nat.le_of_ble_eq_true rfl) (Nat.le_of_ble_eq_true rfl) q167 q168 dX14_init_1) ?_
  refine im (go_aload_n (pc := 4) (Y := YX14_init) 0 dX14_init_4 rfl rfl) ?_
  refine im (go_bipush (pc := 5) (Y := YX14_init) (v := 6) dX14_init_5 rfl) ?_
  refine flp (go_nwA2 (pc := 7) (Y := YX14_init) dX14_init_7) (fun s1 a2 => ?_)
  refine flp (go_pR (pc := 9) (Y := YX14_init) fF1036 (by decide) q1060 (Or.inl rfl) (Or.inr ⟨rfl, rfl⟩) rfl (Or.inr ⟨_, rfl⟩) dX14_init_9) (fun s3 => ?_)
  refine im (go_aload_n (pc := 12) (Y := YX14_init) 0 dX14_init_12 rfl rfl) ?_
  refine im (go_aload_n (pc := 13) (Y := YX14_init) 1 dX14_init_13 rfl rfl) ?_
  refine flp (go_pR (pc := 14) (Y := YX14_init) fF1035 (by decide) q1059 (Or.inl rfl) (Or.inr ⟨rfl, rfl⟩) rfl (Or.inl ⟨_, rfl⟩) dX14_init_14) (fun s4 => ?_)
  refine e1 (fun q0 => ?_)
  subst q0
  exact go_vret (pc := 17) (Y := YX14_init) rfl dX14_init_17
abbrev YX14_begins : mY := (RX14, cX14_begins, 2, (Option.none : Option Jvm.ClassFile.FieldType), 0, 0, false)
theorem YOK_X14_begins : YOK yX14_begins 0 := ⟨⟨by decide +kernel, by decide +kernel⟩, by decide +kernel⟩
theorem sX14_begins_L2_go {G : gG} {s0 sE : St} {rE : Option V3} (this : Nat) : ∀ (n : Nat) (s1 : St) (v2 : Int32) (s3 : St), sX14_begins_L2 this n s1 v2 = some s3 → Go G YX14_begins s0 sE rE 22 [(0, rV (some this))] [] s3 → Go G YX14_begins s0 sE rE 2 [(0, rV (some this)), (1, iV v2)] [] s1 := by
  intro n
  induction n with
  | zero => intro s1 v2 s3 h hx; rw [sX14_begins_L2] at h; cases h
  | succ n ih =>
    intro s1 v2 s3 h hx
    revert h
    rw [sX14_begins_L2]
    refine im (go_iload_n (pc := 2) (Y := YX14_begins) 1 dX14_begins_2 rfl rfl) ?_
    refine im (go_bipush (pc := 3) (Y := YX14_begins) (v := 6) dX14_begins_3 rfl) ?_
    refine flp2 (go_icmp_ge (pc := 5) (Y := YX14_begins) 22 dX14_begins_5 (by decide)) ?_ ?_
    · refine e1 (fun q0 => ?_)
      subst q0
      exact go_sub [0] rfl hx
    · refine im (go_aload_n (pc := 8) (Y := YX14_begins) 0 dX14_begins_8 rfl rfl) ?_
      refine flp (go_gR (pc := 9) (Y := YX14_begins) fF1036 (by decide) q1060 (Or.inl rfl) dX14_begins_9) (fun v4 => ?_)
      refine im (go_iload_n (pc := 12) (Y := YX14_begins) 1 dX14_begins_12 rfl rfl) ?_
      refine im (go_bipush (pc := 13) (Y := YX14_begins) (v := -2) dX14_begins_13 rfl) ?_
      refine flp (go_tB (pc := 15) (Y := YX14_begins) dX14_begins_15) (fun s5 => ?_)
      refine im (go_iinc (pc := 16) (Y := YX14_begins) 1 (v := (v2 + 1)) (ls2 := [(1, iV (v2 + 1)), (0, rV (some this))]) dX14_begins_16 rfl rfl (Nat.le_of_ble_eq_true rfl) rfl) ?_
      refine im (go_goto (pc := 19) (Y := YX14_begins) 2 dX14_begins_19 (by decide)) ?_
      exact fun hq => go_sub [1, 0] rfl (ih _ _ _ hq hx)
theorem mX14_begins {G : gG} (s0 : St) {this : Nat} {sE : St} (h : sX14_begins s0 this = some sE) : Mt G YX14_begins yX14_begins [rV (some this)] s0 none sE := by
  refine go_start (ls0 := [(0, rV (some this))]) (by decide +kernel) rfl (fun h => by cases h) (Nat.le_of_ble_eq_true rfl) rfl ?_
  revert h
  unfold sX14_begins
  refine im (go_iconst (pc := 0) (Y := YX14_begins) (v := 0) dX14_begins_0 rfl) ?_
  refine im (go_istore_n (pc := 1) (Y := YX14_begins) (ls2 := [(1, iV 0), (0, rV (some this))]) dX14_begins_1 rfl (Nat.le_of_ble_eq_true rfl) rfl) ?_
  refine bpg (fun s6 he9 h10 => ?_)
  refine go_sub [1, 0] rfl (sX14_begins_L2_go this FU _ _ _ he9 ?_)
  clear he9
  revert h10
  refine im (go_aload_n (pc := 22) (Y := YX14_begins) 0 dX14_begins_22 rfl rfl) ?_
  refine im (go_iconst (pc := 23) (Y := YX14_begins) (v := 0) dX14_begins_23 rfl) ?_
  refine flp (go_pI (pc := 24) (Y := YX14_begins) fF77 (by decide) q1062 (Or.inl rfl) (Or.inl rfl) rfl rfl rfl dX14_begins_24) (fun s7 => ?_)
  refine im (go_aload_n (pc := 27) (Y := YX14_begins) 0 dX14_begins_27 rfl rfl) ?_
  refine im (go_iconst (pc := 28) (Y := YX14_begins) (v := 0) dX14_begins_28 rfl) ?_
  refine flp (go_pI (pc := 29) (Y := YX14_begins) fF78 (by decide) q1064 (Or.inl rfl) (Or.inl rfl) rfl rfl rfl dX14_begins_29) (fun s8 => ?_)
  refine e1 (fun q0 => ?_)
  subst q0
  exact go_vret (pc := 32) (Y := YX14_begins) rfl dX14_begins_32
abbrev YX14_takes : mY := (RX14, cX14_takes, 2, (Option.none : Option Jvm.ClassFile.FieldType), 1, 26, false)
theorem YOK_X14_takes : YOK yX14_takes 1 := ⟨⟨by decide +kernel, by decide +kernel⟩, by decide +kernel⟩
theorem mX14_takes {G : gG} (s0 : St) {this : Nat} {p0 : Option Nat} {sE : St} (h : sX14_takes s0 this p0 = some sE) : Mt G YX14_takes yX14_takes [rV (some this), rV p0] s0 none sE := by
  refine go_start (ls0 := [(0, rV (some this)), (1, rV p0)]) (by decide +kernel) rfl (fun h => by cases h) (Nat.le_of_ble_eq_true rfl) rfl ?_
  revert h
  unfold sX14_takes
  refine im (go_aload_n (pc := 0) (Y := YX14_takes) 1 dX14_takes_0 rfl rfl) ?_
  refine flp (go_gR (pc := 1) (Y := YX14_takes) fF1036 (by decide) q1060 (Or.inl rfl) dX14_takes_1) (fun v1 => ?_)
  refine im (go_iconst (pc := 4) (Y := YX14_takes) (v := 0) dX14_takes_4 rfl) ?_
  refine im (go_aload_n (pc := 5) (Y := YX14_takes) 0 dX14_takes_5 rfl rfl) ?_
  refine flp (go_gR (pc := 6) (Y := YX14_takes) fF1036 (by decide) q1060 (Or.inl rfl) dX14_takes_6) (fun v2 => ?_)
  refine im (go_iconst (pc := 9) (Y := YX14_takes) (v := 0) dX14_takes_9 rfl) ?_
  refine im (go_bipush (pc := 10) (Y := YX14_takes) (v := 6) dX14_takes_10 rfl) ?_
  refine flp (go_cpI (pc := 12) (Y := YX14_takes) (k0 := 1) rfl (by decide) q1089 q473 q472 q145 (Nat.le_of_ble_eq_true rfl) (Nat.le_of_ble_eq_true rfl) dX14_takes_12) (fun s3 => ?_)
  refine im (go_aload_n (pc := 15) (Y := YX14_takes) 0 dX14_takes_15 rfl rfl) ?_
  refine im (go_aload_n (pc := 16) (Y := YX14_takes) 1 dX14_takes_16 rfl rfl) ?_
  refine flp (go_gI (pc := 17) (Y := YX14_takes) fF77 (by decide) q1062 (Or.inl rfl) dX14_takes_17) (fun v4 => ?_)
  refine flp (go_pI (pc := 20) (Y := YX14_takes) fF77 (by decide) q1062 (Or.inl rfl) (Or.inl rfl) rfl rfl rfl dX14_takes_20) (fun s5 => ?_)
  refine im (go_aload_n (pc := 23) (Y := YX14_takes) 0 dX14_takes_23 rfl rfl) ?_
  refine im (go_aload_n (pc := 24) (Y := YX14_takes) 1 dX14_takes_24 rfl rfl) ?_
  refine flp (go_gI (pc := 25) (Y := YX14_takes) fF78 (by decide) q1064 (Or.inl rfl) dX14_takes_25) (fun v6 => ?_)
  refine flp (go_pI (pc := 28) (Y := YX14_takes) fF78 (by decide) q1064 (Or.inl rfl) (Or.inl rfl) rfl rfl rfl dX14_takes_28) (fun s7 => ?_)
  refine e1 (fun q0 => ?_)
  subst q0
  exact go_vret (pc := 31) (Y := YX14_takes) rfl dX14_takes_31
abbrev YX14_copy : mY := (RX14, cX14_copy, 2, (Option.some (.object "ThirdWitness$Scene")), 2, 47, false)
theorem YOK_X14_copy : YOK yX14_copy 0 := ⟨⟨by decide +kernel, by decide +kernel⟩, by decide +kernel⟩
theorem mX14_copy {G : gG} (s0 : St) {this : Nat} {sE : St} {vE : Option Nat} (h : sX14_copy s0 this = some (sE, vE)) : Mt G YX14_copy yX14_copy [rV (some this)] s0 (some (rV vE)) sE := by
  refine go_start (ls0 := [(0, rV (some this))]) (by decide +kernel) rfl (fun h => by cases h) (Nat.le_of_ble_eq_true rfl) rfl ?_
  revert h
  unfold sX14_copy
  refine flp (go_nwO (pc := 0) (Y := YX14_copy) (c0 := 16) (q := (RX14, TX14, 4)) rfl rfl q1083 q1054 q156 dX14_copy_0) (fun s1 a2 => ?_)
  refine im (go_dup (pc := 3) (Y := YX14_copy) dX14_copy_3 rfl) ?_
  refine im (go_aload_n (pc := 4) (Y := YX14_copy) 0 dX14_copy_4 rfl rfl) ?_
  refine flp (go_gR (pc := 5) (Y := YX14_copy) fF1035 (by decide) q1059 (Or.inl rfl) dX14_copy_5) (fun v3 => ?_)
  refine bpg (fun s4 he5 => ?_)
  refine im (go_callI (pc := 8) (Y := YX14_copy) (Yc := YX14_init) (y := yX14_init) (n := 1) a2 [rV v3] [rV (some a2)] rfl (mX14_init s1 he5) YOK_X14_init rfl rfl q1057 rfl q156 q1056 q1084 (Nat.le_of_ble_eq_true rfl) (Nat.le_of_ble_eq_true rfl) (Nat.le_of_ble_eq_true rfl) dX14_copy_8 (st2 := [rV (some a2)]) rfl) ?_
  clear he5
  refine im (go_astore_n (pc := 11) (Y := YX14_copy) (ls2 := [(1, rV (some a2)), (0, rV (some this))]) dX14_copy_11 rfl (Nat.le_of_ble_eq_true rfl) rfl) ?_
  refine im (go_aload_n (pc := 12) (Y := YX14_copy) 0 dX14_copy_12 rfl rfl) ?_
  refine im (go_aload_n (pc := 13) (Y := YX14_copy) 1 dX14_copy_13 rfl rfl) ?_
  refine kdg (fun k6 => ?_)
  refine bpg (fun s7 he8 => ?_)
  refine im (go_callV (pc := 14) (Y := YX14_copy) (Yc := YX14_takes) (y := yX14_takes) (n := 1) (c0 := 16) (q := (RX14, TX14, 4)) a2 [rV (some this)] [] rfl rfl k6 (mX14_takes s4 he8) YOK_X14_takes rfl q1088 q156 q1086 q1087 q1085 (Nat.le_of_ble_eq_true rfl) (Nat.le_of_ble_eq_true rfl) (Nat.le_of_ble_eq_true rfl) dX14_copy_14 (st2 := []) rfl) ?_
  clear he8
  refine im (go_aload_n (pc := 17) (Y := YX14_copy) 0 dX14_copy_17 rfl rfl) ?_
  refine e2 (fun q0 q1 => ?_)
  subst q0
  subst q1
  exact go_aret (pc := 18) (Y := YX14_copy) rfl (Or.inl ⟨_, rfl⟩) dX14_copy_18
abbrev YX9_kind : mY := (RX9, cX9_kind, 1, (Option.some .int), 0, 0, false)
theorem YOK_X9_kind : YOK yX9_kind 0 := ⟨⟨by decide +kernel, by decide +kernel⟩, by decide +kernel⟩
theorem mX9_kind {G : gG} (s0 : St) {this : Nat} {vE : Int32} (h : sX9_kind s0 this = some vE) : Mt G YX9_kind yX9_kind [rV (some this)] s0 (some (iV vE)) s0 := by
  refine go_start (ls0 := [(0, rV (some this))]) (by decide +kernel) rfl (fun h => by cases h) (Nat.le_of_ble_eq_true rfl) rfl ?_
  revert h
  unfold sX9_kind
  refine im (go_iconst (pc := 0) (Y := YX9_kind) (v := 0) dX9_kind_0 rfl) ?_
  refine e1 (fun q0 => ?_)
  subst q0
  exact go_iret (pc := 1) (Y := YX9_kind) rfl dX9_kind_1
abbrev YX10_kind : mY := (RX10, cX10_kind, 1, (Option.some .int), 0, 0, false)
theorem YOK_X10_kind : YOK yX10_kind 0 := ⟨⟨by decide +kernel, by decide +kernel⟩, by decide +kernel⟩
theorem mX10_kind {G : gG} (s0 : St) {this : Nat} {vE : Int32} (h : sX10_kind s0 this = some vE) : Mt G YX10_kind yX10_kind [rV (some this)] s0 (some (iV vE)) s0 := by
  refine go_start (ls0 := [(0, rV (some this))]) (by decide +kernel) rfl (fun h => by cases h) (Nat.le_of_ble_eq_true rfl) rfl ?_
  revert h
  unfold sX10_kind
  refine im (go_iconst (pc := 0) (Y := YX10_kind) (v := 1) dX10_kind_0 rfl) ?_
  refine e1 (fun q0 => ?_)
  subst q0
  exact go_iret (pc := 1) (Y := YX10_kind) rfl dX10_kind_1
abbrev YX11_kind : mY := (RX11, cX11_kind, 1, (Option.some .int), 0, 0, false)
theorem YOK_X11_kind : YOK yX11_kind 0 := ⟨⟨by decide +kernel, by decide +kernel⟩, by decide +kernel⟩
theorem mX11_kind {G : gG} (s0 : St) {this : Nat} {vE : Int32} (h : sX11_kind s0 this = some vE) : Mt G YX11_kind yX11_kind [rV (some this)] s0 (some (iV vE)) s0 := by
  refine go_start (ls0 := [(0, rV (some this))]) (by decide +kernel) rfl (fun h => by cases h) (Nat.le_of_ble_eq_true rfl) rfl ?_
  revert h
  unfold sX11_kind
  refine im (go_iconst (pc := 0) (Y := YX11_kind) (v := 2) dX11_kind_0 rfl) ?_
  refine e1 (fun q0 => ?_)
  subst q0
  exact go_iret (pc := 1) (Y := YX11_kind) rfl dX11_kind_1
abbrev YX12_kind : mY := (RX12, cX12_kind, 1, (Option.some .int), 0, 0, false)
theorem YOK_X12_kind : YOK yX12_kind 0 := ⟨⟨by decide +kernel, by decide +kernel⟩, by decide +kernel⟩
theorem mX12_kind {G : gG} (s0 : St) {this : Nat} {vE : Int32} (h : sX12_kind s0 this = some vE) : Mt G YX12_kind yX12_kind [rV (some this)] s0 (some (iV vE)) s0 := by
  refine go_start (ls0 := [(0, rV (some this))]) (by decide +kernel) rfl (fun h => by cases h) (Nat.le_of_ble_eq_true rfl) rfl ?_
  revert h
  unfold sX12_kind
  refine im (go_iconst (pc := 0) (Y := YX12_kind) (v := 3) dX12_kind_0 rfl) ?_
  refine e1 (fun q0 => ?_)
  subst q0
  exact go_iret (pc := 1) (Y := YX12_kind) rfl dX12_kind_1
abbrev YX9_eyes : mY := (RX9, cX9_eyes, 1, (Option.some .int), 0, 0, false)
theorem YOK_X9_eyes : YOK yX9_eyes 0 := ⟨⟨by decide +kernel, by decide +kernel⟩, by decide +kernel⟩
theorem mX9_eyes {G : gG} (s0 : St) {this : Nat} {vE : Int32} (h : sX9_eyes s0 this = some vE) : Mt G YX9_eyes yX9_eyes [rV (some this)] s0 (some (iV vE)) s0 := by
  refine go_start (ls0 := [(0, rV (some this))]) (by decide +kernel) rfl (fun h => by cases h) (Nat.le_of_ble_eq_true rfl) rfl ?_
  revert h
  unfold sX9_eyes
  refine im (go_iconst (pc := 0) (Y := YX9_eyes) (v := 2) dX9_eyes_0 rfl) ?_
  refine e1 (fun q0 => ?_)
  subst q0
  exact go_iret (pc := 1) (Y := YX9_eyes) rfl dX9_eyes_1
abbrev YX11_eyes : mY := (RX11, cX11_eyes, 1, (Option.some .int), 0, 0, false)
theorem YOK_X11_eyes : YOK yX11_eyes 0 := ⟨⟨by decide +kernel, by decide +kernel⟩, by decide +kernel⟩
theorem mX11_eyes {G : gG} (s0 : St) {this : Nat} {vE : Int32} (h : sX11_eyes s0 this = some vE) : Mt G YX11_eyes yX11_eyes [rV (some this)] s0 (some (iV vE)) s0 := by
  refine go_start (ls0 := [(0, rV (some this))]) (by decide +kernel) rfl (fun h => by cases h) (Nat.le_of_ble_eq_true rfl) rfl ?_
  revert h
  unfold sX11_eyes
  refine im (go_iconst (pc := 0) (Y := YX11_eyes) (v := 0) dX11_eyes_0 rfl) ?_
  refine e1 (fun q0 => ?_)
  subst q0
  exact go_iret (pc := 1) (Y := YX11_eyes) rfl dX11_eyes_1
abbrev YX12_eyes : mY := (RX12, cX12_eyes, 1, (Option.some .int), 1, 20, false)
theorem YOK_X12_eyes : YOK yX12_eyes 0 := ⟨⟨by decide +kernel, by decide +kernel⟩, by decide +kernel⟩
theorem mX12_eyes {G : gG} (s0 : St) {this : Nat} {vE : Int32} (h : sX12_eyes s0 this = some vE) : Mt G YX12_eyes yX12_eyes [rV (some this)] s0 (some (iV vE)) s0 := by
  refine go_start (ls0 := [(0, rV (some this))]) (by decide +kernel) rfl (fun h => by cases h) (Nat.le_of_ble_eq_true rfl) rfl ?_
  revert h
  unfold sX12_eyes
  refine im (go_aload_n (pc := 0) (Y := YX12_eyes) 0 dX12_eyes_0 rfl rfl) ?_
  refine kdg (fun k3 => ?_)
  refine bpg (fun v1 he2 => ?_)
  refine im (go_callSU (pc := 1) (Y := YX12_eyes) (Yc := YX9_eyes) (y := yX9_eyes) (n := 0) (c0 := 14) (q := (RX12, TX12, 9)) this [] [] rfl rfl k3 (mX9_eyes s0 he2) YOK_X9_eyes rfl q1146 q151 q1139 q1141 q976 (by decide) q1145 (Nat.le_of_ble_eq_true rfl) (Nat.le_of_ble_eq_true rfl) (Nat.le_of_ble_eq_true rfl) dX12_eyes_1 (st2 := [iV v1]) rfl) ?_
  clear he2
  refine im (go_iconst (pc := 4) (Y := YX12_eyes) (v := 2) dX12_eyes_4 rfl) ?_
  refine flp (go_idiv (pc := 5) (Y := YX12_eyes) dX12_eyes_5) (fun h => ?_)
  revert h
  refine e1 (fun q0 => ?_)
  subst q0
  exact go_iret (pc := 6) (Y := YX12_eyes) rfl dX12_eyes_6
theorem dv_kind_go {G : gG} {Y : mY} {σ0 sE s0 : St} {rE : Option V3} {pc idx : Nat} {ls : List (Nat × V3)} {st2 : List V3} {b : Nat} {v : Int32} (rest : List V3) {st : List V3} (hst : [].reverse ++ rV (some b) :: rest = st) (h : dv_kind s0 b = some v) (hl : Cond.methodLink Y.1 idx yX9_kind ∈ lw_all) (hfr : 1 ≤ Y.2.2.2.2.1) (hlo : 20 ≤ Y.2.2.2.2.2.1) (h8 : (rest.map vc).sum ≤ 8) (hd : decode Y.2.1 pc = .ok (.invokevirtual idx, 3)) (hst2 : iV v :: rest = st2) (k : Go G Y σ0 sE rE (pc + 3) ls st2 s0) : Go G Y σ0 sE rE pc ls st s0 := by
  unfold dv_kind at h
  split at h
  · next hk =>
    exact go_callV (Yc := YX9_kind) (y := yX9_kind) (n := 0) (c0 := 11) (q := (RX9, TX9, 9)) b [] rest hst rfl hk (mX9_kind s0 h) YOK_X9_kind rfl q1137 q151 q1125 q1126 hl (Nat.le_trans (Nat.le_of_ble_eq_true rfl) hfr) (Nat.le_trans (Nat.le_of_ble_eq_true rfl) hlo) h8 hd (st2 := st2) hst2 k
  split at h
  · next hk =>
    exact go_callU (Yc := YX10_kind) (y := yX10_kind) (n := 0) (c0 := 12) (q := (RX10, TX10, 9)) (x := yX9_kind) (owner := "ThirdWitness$Person") b [] rest hst rfl hk (mX10_kind s0 h) ⟨⟨by decide +kernel, by decide +kernel⟩, by decide +kernel⟩ rfl q1136 q152 q1135 q1127 (by decide) q1125 q1137 q1134 hl (Nat.le_trans (Nat.le_of_ble_eq_true rfl) hfr) (Nat.le_trans (Nat.le_of_ble_eq_true rfl) hlo) h8 hd (st2 := st2) hst2 k
  split at h
  · next hk =>
    exact go_callU (Yc := YX11_kind) (y := yX11_kind) (n := 0) (c0 := 13) (q := (RX11, TX11, 9)) (x := yX9_kind) (owner := "ThirdWitness$Person") b [] rest hst rfl hk (mX11_kind s0 h) ⟨⟨by decide +kernel, by decide +kernel⟩, by decide +kernel⟩ rfl q1133 q153 q1132 q1127 (by decide) q1125 q1137 q1131 hl (Nat.le_trans (Nat.le_of_ble_eq_true rfl) hfr) (Nat.le_trans (Nat.le_of_ble_eq_true rfl) hlo) h8 hd (st2 := st2) hst2 k
  split at h
  · next hk =>
    exact go_callU (Yc := YX12_kind) (y := yX12_kind) (n := 0) (c0 := 14) (q := (RX12, TX12, 9)) (x := yX9_kind) (owner := "ThirdWitness$Person") b [] rest hst rfl hk (mX12_kind s0 h) ⟨⟨by decide +kernel, by decide +kernel⟩, by decide +kernel⟩ rfl q1130 q154 q1129 q1127 (by decide) q1125 q1137 q1128 hl (Nat.le_trans (Nat.le_of_ble_eq_true rfl) hfr) (Nat.le_trans (Nat.le_of_ble_eq_true rfl) hlo) h8 hd (st2 := st2) hst2 k
  · cases h

theorem dv_eyes_go {G : gG} {Y : mY} {σ0 sE s0 : St} {rE : Option V3} {pc idx : Nat} {ls : List (Nat × V3)} {st2 : List V3} {b : Nat} {v : Int32} (rest : List V3) {st : List V3} (hst : [].reverse ++ rV (some b) :: rest = st) (h : dv_eyes s0 b = some v) (hl : Cond.methodLink Y.1 idx yX9_eyes ∈ lw_all) (hfr : 2 ≤ Y.2.2.2.2.1) (hlo : 40 ≤ Y.2.2.2.2.2.1) (h8 : (rest.map vc).sum ≤ 8) (hd : decode Y.2.1 pc = .ok (.invokevirtual idx, 3)) (hst2 : iV v :: rest = st2) (k : Go G Y σ0 sE rE (pc + 3) ls st2 s0) : Go G Y σ0 sE rE pc ls st s0 := by
  unfold dv_eyes at h
  split at h
  · next hk =>
    exact go_callV (Yc := YX9_eyes) (y := yX9_eyes) (n := 0) (c0 := 11) (q := (RX9, TX9, 9)) b [] rest hst rfl hk (mX9_eyes s0 h) YOK_X9_eyes rfl q1146 q151 q1139 q1140 hl (Nat.le_trans (Nat.le_of_ble_eq_true rfl) hfr) (Nat.le_trans (Nat.le_of_ble_eq_true rfl) hlo) h8 hd (st2 := st2) hst2 k
  split at h
  · next hk =>
    exact go_callU (Yc := YX9_eyes) (y := yX9_eyes) (n := 0) (c0 := 12) (q := (RX10, TX10, 9)) (x := yX9_eyes) (owner := "ThirdWitness$Person") b [] rest hst rfl hk (mX9_eyes s0 h) ⟨⟨by decide +kernel, by decide +kernel⟩, by decide +kernel⟩ rfl q1146 q151 q1139 q1141 (by decide) q1139 q1146 q1150 hl (Nat.le_trans (Nat.le_of_ble_eq_true rfl) hfr) (Nat.le_trans (Nat.le_of_ble_eq_true rfl) hlo) h8 hd (st2 := st2) hst2 k
  split at h
  · next hk =>
    exact go_callU (Yc := YX11_eyes) (y := yX11_eyes) (n := 0) (c0 := 13) (q := (RX11, TX11, 9)) (x := yX9_eyes) (owner := "ThirdWitness$Person") b [] rest hst rfl hk (mX11_eyes s0 h) ⟨⟨by decide +kernel, by decide +kernel⟩, by decide +kernel⟩ rfl q1149 q153 q1148 q1141 (by decide) q1139 q1146 q1147 hl (Nat.le_trans (Nat.le_of_ble_eq_true rfl) hfr) (Nat.le_trans (Nat.le_of_ble_eq_true rfl) hlo) h8 hd (st2 := st2) hst2 k
  split at h
  · next hk =>
    exact go_callU (Yc := YX12_eyes) (y := yX12_eyes) (n := 0) (c0 := 14) (q := (RX12, TX12, 9)) (x := yX9_eyes) (owner := "ThirdWitness$Person") b [] rest hst rfl hk (mX12_eyes s0 h) ⟨⟨by decide +kernel, by decide +kernel⟩, by decide +kernel⟩ rfl q1144 q154 q1143 q1141 (by decide) q1139 q1146 q1142 hl (Nat.le_trans (Nat.le_of_ble_eq_true rfl) hfr) (Nat.le_trans (Nat.le_of_ble_eq_true rfl) hlo) h8 hd (st2 := st2) hst2 k
  · cases h

abbrev YX9_at : mY := (RX9, cX9_at, 4, (Option.some .int), 0, 0, false)
theorem YOK_X9_at : YOK yX9_at 1 := ⟨⟨by decide +kernel, by decide +kernel⟩, by decide +kernel⟩
theorem sX9_at_L7_go {G : gG} {s0 sE : St} {rE : Option V3} (s2 : St) (this : Nat) (i1 : Int32) : ∀ (n : Nat) (v3 : Int32) (v4 : Int32) (v5 : Int32), sX9_at_L7 s2 this i1 n v3 v4 = some v5 → Go G YX9_at s0 sE rE 38 [(2, iV v5)] [] s2 → Go G YX9_at s0 sE rE 7 [(0, rV (some this)), (1, iV i1), (2, iV v3), (3, iV v4)] [] s2 := by
  intro n
  induction n with
  | zero => intro v3 v4 v5 h hx; rw [sX9_at_L7] at h; cases h
  | succ n ih =>
    intro v3 v4 v5 h hx
    revert h
    rw [sX9_at_L7]
    refine im (go_iload_n (pc := 7) (Y := YX9_at) 3 dX9_at_7 rfl rfl) ?_
    refine im (go_aload_n (pc := 8) (Y := YX9_at) 0 dX9_at_8 rfl rfl) ?_
    refine flp (go_gI (pc := 9) (Y := YX9_at) fF68 (by decide) q905 (Or.inl rfl) dX9_at_9) (fun v6 => ?_)
    refine flp2 (go_icmp_ge (pc := 12) (Y := YX9_at) 38 dX9_at_12 (by decide)) ?_ ?_
    · refine e1 (fun q0 => ?_)
      subst q0
      exact go_sub [2] rfl hx
    · refine im (go_aload_n (pc := 15) (Y := YX9_at) 0 dX9_at_15 rfl rfl) ?_
      refine flp (go_gR (pc := 16) (Y := YX9_at) fF1033 (by decide) q895 (Or.inl rfl) dX9_at_16) (fun v7 => ?_)
      refine im (go_iload_n (pc := 19) (Y := YX9_at) 3 dX9_at_19 rfl rfl) ?_
      refine flp (go_lI1 (pc := 20) (Y := YX9_at) dX9_at_20) (fun v8 => ?_)
      refine im (go_iload_n (pc := 21) (Y := YX9_at) 1 dX9_at_21 rfl rfl) ?_
      refine bpg (fun v9 he12 h13 => ?_)
      have hj32 : Go G YX9_at s0 sE rE 32 [(0, rV (some this)), (1, iV i1), (2, iV v9), (3, iV v4)] [] s2 := by
        clear he12
        revert h13
        refine im (go_iinc (pc := 32) (Y := YX9_at) 3 (v := (v4 + 1)) (ls2 := [(3, iV (v4 + 1)), (0, rV (some this)), (1, iV i1), (2, iV v9)]) dX9_at_32 rfl rfl (Nat.le_of_ble_eq_true rfl) rfl) ?_
        refine im (go_goto (pc := 35) (Y := YX9_at) 7 dX9_at_35 (by decide)) ?_
        exact fun hq => go_sub [1, 2, 3, 0] rfl (ih _ _ _ hq hx)
      clear h13
      revert he12
      refine flp2 (go_icmp_gt (pc := 22) (Y := YX9_at) 32 dX9_at_22 (by decide)) ?_ ?_
      · refine e1 (fun q0 => ?_)
        subst q0
        exact go_sub [0, 1, 2, 3] rfl hj32
      · refine im (go_aload_n (pc := 25) (Y := YX9_at) 0 dX9_at_25 rfl rfl) ?_
        refine flp (go_gR (pc := 26) (Y := YX9_at) fF1034 (by decide) q897 (Or.inl rfl) dX9_at_26) (fun v10 => ?_)
        refine im (go_iload_n (pc := 29) (Y := YX9_at) 3 dX9_at_29 rfl rfl) ?_
        refine flp (go_lI1 (pc := 30) (Y := YX9_at) dX9_at_30) (fun v11 => ?_)
        refine im (go_istore_n (pc := 31) (Y := YX9_at) (ls2 := [(2, iV v11), (0, rV (some this)), (1, iV i1), (3, iV v4)]) dX9_at_31 rfl (Nat.le_of_ble_eq_true rfl) rfl) ?_
        refine e1 (fun q0 => ?_)
        subst q0
        exact go_sub [1, 2, 0, 3] rfl hj32
theorem mX9_at {G : gG} (s0 : St) {this : Nat} {p0 : Int32} {vE : Int32} (h : sX9_at s0 this p0 = some vE) : Mt G YX9_at yX9_at [rV (some this), iV p0] s0 (some (iV vE)) s0 := by
  refine go_start (ls0 := [(0, rV (some this)), (1, iV p0)]) (by decide +kernel) rfl (fun h => by cases h) (Nat.le_of_ble_eq_true rfl) rfl ?_
  revert h
  unfold sX9_at
  refine im (go_aload_n (pc := 0) (Y := YX9_at) 0 dX9_at_0 rfl rfl) ?_
  refine flp (go_gI (pc := 1) (Y := YX9_at) fF65 (by decide) q899 (Or.inl rfl) dX9_at_1) (fun v1 => ?_)
  refine im (go_istore_n (pc := 4) (Y := YX9_at) (ls2 := [(2, iV v1), (0, rV (some this)), (1, iV p0)]) dX9_at_4 rfl (Nat.le_of_ble_eq_true rfl) rfl) ?_
  refine im (go_iconst (pc := 5) (Y := YX9_at) (v := 0) dX9_at_5 rfl) ?_
  refine im (go_istore_n (pc := 6) (Y := YX9_at) (ls2 := [(3, iV 0), (2, iV v1), (0, rV (some this)), (1, iV p0)]) dX9_at_6 rfl (Nat.le_of_ble_eq_true rfl) rfl) ?_
  refine bpg (fun v14 he15 h16 => ?_)
  refine go_sub [2, 3, 1, 0] rfl (sX9_at_L7_go s0 this p0 FU _ _ _ he15 ?_)
  clear he15
  revert h16
  refine im (go_iload_n (pc := 38) (Y := YX9_at) 0 dX9_at_38 rfl rfl) ?_
  refine e1 (fun q0 => ?_)
  subst q0
  exact go_iret (pc := 39) (Y := YX9_at) rfl dX9_at_39
theorem dv_at_go {G : gG} {Y : mY} {σ0 sE s0 : St} {rE : Option V3} {pc idx : Nat} {ls : List (Nat × V3)} {st2 : List V3} {b : Nat} {v : Int32} (p0 : Int32) (rest : List V3) {st : List V3} (hst : [iV p0].reverse ++ rV (some b) :: rest = st) (h : dv_at s0 b p0 = some v) (hl : Cond.methodLink Y.1 idx yX9_at ∈ lw_all) (hfr : 1 ≤ Y.2.2.2.2.1) (hlo : 23 ≤ Y.2.2.2.2.2.1) (h8 : (rest.map vc).sum ≤ 8) (hd : decode Y.2.1 pc = .ok (.invokevirtual idx, 3)) (hst2 : iV v :: rest = st2) (k : Go G Y σ0 sE rE (pc + 3) ls st2 s0) : Go G Y σ0 sE rE pc ls st s0 := by
  unfold dv_at at h
  split at h
  · next hk =>
    exact go_callV (Yc := YX9_at) (y := yX9_at) (n := 1) (c0 := 11) (q := (RX9, TX9, 9)) b [iV p0] rest hst rfl hk (mX9_at s0 h) YOK_X9_at rfl q1205 q151 q1199 q1200 hl (Nat.le_trans (Nat.le_of_ble_eq_true rfl) hfr) (Nat.le_trans (Nat.le_of_ble_eq_true rfl) hlo) h8 hd (st2 := st2) hst2 k
  split at h
  · next hk =>
    exact go_callU (Yc := YX9_at) (y := yX9_at) (n := 1) (c0 := 12) (q := (RX10, TX10, 9)) (x := yX9_at) (owner := "ThirdWitness$Person") b [iV p0] rest hst rfl hk (mX9_at s0 h) ⟨⟨by decide +kernel, by decide +kernel⟩, by decide +kernel⟩ rfl q1205 q151 q1199 q1201 (by decide) q1199 q1205 q1204 hl (Nat.le_trans (Nat.le_of_ble_eq_true rfl) hfr) (Nat.le_trans (Nat.le_of_ble_eq_true rfl) hlo) h8 hd (st2 := st2) hst2 k
  split at h
  · next hk =>
    exact go_callU (Yc := YX9_at) (y := yX9_at) (n := 1) (c0 := 13) (q := (RX11, TX11, 9)) (x := yX9_at) (owner := "ThirdWitness$Person") b [iV p0] rest hst rfl hk (mX9_at s0 h) ⟨⟨by decide +kernel, by decide +kernel⟩, by decide +kernel⟩ rfl q1205 q151 q1199 q1201 (by decide) q1199 q1205 q1203 hl (Nat.le_trans (Nat.le_of_ble_eq_true rfl) hfr) (Nat.le_trans (Nat.le_of_ble_eq_true rfl) hlo) h8 hd (st2 := st2) hst2 k
  split at h
  · next hk =>
    exact go_callU (Yc := YX9_at) (y := yX9_at) (n := 1) (c0 := 14) (q := (RX12, TX12, 9)) (x := yX9_at) (owner := "ThirdWitness$Person") b [iV p0] rest hst rfl hk (mX9_at s0 h) ⟨⟨by decide +kernel, by decide +kernel⟩, by decide +kernel⟩ rfl q1205 q151 q1199 q1201 (by decide) q1199 q1205 q1202 hl (Nat.le_trans (Nat.le_of_ble_eq_true rfl) hfr) (Nat.le_trans (Nat.le_of_ble_eq_true rfl) hlo) h8 hd (st2 := st2) hst2 k
  · cases h

abbrev YX14_at : mY := (RX14, cX14_at, 3, (Option.some .int), 4, 85, false)
theorem YOK_X14_at : YOK yX14_at 2 := ⟨⟨by decide +kernel, by decide +kernel⟩, by decide +kernel⟩
theorem mX14_at {G : gG} (s0 : St) {this : Nat} {p0 : Int32} {p1 : Int32} {vE : Int32} (h : sX14_at s0 this p0 p1 = some vE) : Mt G YX14_at yX14_at [rV (some this), iV p0, iV p1] s0 (some (iV vE)) s0 := by
  refine go_start (ls0 := [(0, rV (some this)), (1, iV p0), (2, iV p1)]) (by decide +kernel) rfl (fun h => by cases h) (Nat.le_of_ble_eq_true rfl) rfl ?_
  revert h
  unfold sX14_at
  refine im (go_aload_n (pc := 0) (Y := YX14_at) 0 dX14_at_0 rfl rfl) ?_
  refine flp (go_gR (pc := 1) (Y := YX14_at) fF1036 (by decide) q1060 (Or.inl rfl) dX14_at_1) (fun v1 => ?_)
  refine im (go_iload_n (pc := 4) (Y := YX14_at) 1 dX14_at_4 rfl rfl) ?_
  refine flp (go_lI2 (pc := 5) (Y := YX14_at) dX14_at_5) (fun v2 => ?_)
  refine im (go_bipush (pc := 6) (Y := YX14_at) (v := -2) dX14_at_6 rfl) ?_
  refine flp2 (go_icmp_ne (pc := 8) (Y := YX14_at) 26 dX14_at_8 (by decide)) ?_ ?_
  · refine im (go_aload_n (pc := 11) (Y := YX14_at) 0 dX14_at_11 rfl rfl) ?_
    refine flp (go_gR (pc := 12) (Y := YX14_at) fF1035 (by decide) q1059 (Or.inl rfl) dX14_at_12) (fun v3 => ?_)
    refine im (go_iload_n (pc := 15) (Y := YX14_at) 1 dX14_at_15 rfl rfl) ?_
    refine ivg (fun w4 r5 k6 => ?_)
    refine bpg (fun v7 he8 => ?_)
    refine im (go_callV (pc := 16) (Y := YX14_at) (Yc := YX5_person) (y := yX5_person) (n := 1) (c0 := 5) (q := (RX5, TX5, 10)) w4 [iV p0] [] (by rw [r5]; rfl) rfl k6 (mX5_person s0 he8) YOK_X5_person rfl q986 q136 q984 q985 q1197 (Nat.le_of_ble_eq_true rfl) (Nat.le_of_ble_eq_true rfl) (Nat.le_of_ble_eq_true rfl) dX14_at_16 (st2 := [rV v7]) rfl) ?_
    clear he8
    refine im (go_iload_n (pc := 19) (Y := YX14_at) 2 dX14_at_19 rfl rfl) ?_
    refine xNg (fun w11 r12 => ?_)
    refine bpg (fun v9 he10 => ?_)
    refine im (dv_at_go (pc := 20) (Y := YX14_at) p1 [] (by rw [r12]; rfl) he10 q1198 (Nat.le_of_ble_eq_true rfl) (Nat.le_of_ble_eq_true rfl) (Nat.le_of_ble_eq_true rfl) dX14_at_20 (st2 := [iV v9]) rfl) ?_
    clear he10
    refine im (go_goto (pc := 23) (Y := YX14_at) 32 dX14_at_23 (by decide)) ?_
    refine e1 (fun q0 => ?_)
    subst q0
    exact go_iret (pc := 32) (Y := YX14_at) rfl dX14_at_32
  · refine im (go_aload_n (pc := 26) (Y := YX14_at) 0 dX14_at_26 rfl rfl) ?_
    refine flp (go_gR (pc := 27) (Y := YX14_at) fF1036 (by decide) q1060 (Or.inl rfl) dX14_at_27) (fun v13 => ?_)
    refine im (go_iload_n (pc := 30) (Y := YX14_at) 1 dX14_at_30 rfl rfl) ?_
    refine flp (go_lI2 (pc := 31) (Y := YX14_at) dX14_at_31) (fun v14 => ?_)
    refine e1 (fun q0 => ?_)
    subst q0
    exact go_iret (pc := 32) (Y := YX14_at) rfl dX14_at_32
abbrev YX14_into : mY := (RX14, cX14_into, 4, (Option.some .int), 3, 64, false)
theorem YOK_X14_into : YOK yX14_into 1 := ⟨⟨by decide +kernel, by decide +kernel⟩, by decide +kernel⟩
theorem sX14_into_L6_go {G : gG} {s0 sE : St} {rE : Option V3} (s1 : St) (this : Nat) (i1 : Int32) : ∀ (n : Nat) (v2 : Int32) (v3 : Int32) (v4 : Int32), sX14_into_L6 s1 this i1 n v2 v3 = some v4 → Go G YX14_into s0 sE rE 80 [(2, iV v4)] [] s1 → Go G YX14_into s0 sE rE 6 [(0, rV (some this)), (1, iV i1), (2, iV v2), (3, iV v3)] [] s1 := by
  intro n
  induction n with
  | zero => intro v2 v3 v4 h hx; rw [sX14_into_L6] at h; cases h
  | succ n ih =>
    intro v2 v3 v4 h hx
    revert h
    rw [sX14_into_L6]
    refine im (go_iload_n (pc := 6) (Y := YX14_into) 3 dX14_into_6 rfl rfl) ?_
    refine im (go_aload_n (pc := 7) (Y := YX14_into) 0 dX14_into_7 rfl rfl) ?_
    refine flp (go_gR (pc := 8) (Y := YX14_into) fF1035 (by decide) q1059 (Or.inl rfl) dX14_into_8) (fun v5 => ?_)
    refine flp (go_gR (pc := 11) (Y := YX14_into) fF1027 (by decide) q341 (Or.inl rfl) dX14_into_11) (fun v6 => ?_)
    refine ivg (fun w7 r8 k9 => ?_)
    refine bpg (fun v10 he11 => ?_)
    refine im (go_callV (pc := 14) (Y := YX14_into) (Yc := YJ2_size) (y := yJ2_size) (n := 0) (c0 := 1) (q := (RJ2, TJ2, 3)) w7 [] [iV v3] (by rw [r8]; rfl) rfl k9 (mJ2_size s1 he11) YOK_J2_size rfl q733 q132 q731 q732 q1218 (Nat.le_of_ble_eq_true rfl) (Nat.le_of_ble_eq_true rfl) (Nat.le_of_ble_eq_true rfl) dX14_into_14 (st2 := [iV v10, iV v3]) rfl) ?_
    clear he11
    refine flp2 (go_icmp_ge (pc := 17) (Y := YX14_into) 80 dX14_into_17 (by decide)) ?_ ?_
    · refine e1 (fun q0 => ?_)
      subst q0
      exact go_sub [2] rfl hx
    · refine im (go_aload_n (pc := 20) (Y := YX14_into) 0 dX14_into_20 rfl rfl) ?_
      refine flp (go_gI (pc := 21) (Y := YX14_into) fF77 (by decide) q1062 (Or.inl rfl) dX14_into_21) (fun v12 => ?_)
      refine im (go_iload_n (pc := 24) (Y := YX14_into) 3 dX14_into_24 rfl rfl) ?_
      refine bpg (fun v13 he14 => ?_)
      refine im (go_callSN (pc := 25) (Y := YX14_into) (Yc := YX1_has) (y := yX1_has) (n := 2) (host := "ThirdWitness") [iV v12, iV v3] [] rfl (mX1_has s1 he14) YOK_X1_has rfl q1176 q129 q1175 (by decide +kernel) (Nat.le_of_ble_eq_true rfl) (Nat.le_of_ble_eq_true rfl) (Nat.le_of_ble_eq_true rfl) dX14_into_25 (st2 := [iV v13]) rfl) ?_
      clear he14
      refine bpg (fun v15 he34 h35 => ?_)
      have hj74 : Go G YX14_into s0 sE rE 74 [(0, rV (some this)), (1, iV i1), (2, iV v15), (3, iV v3)] [] s1 := by
        clear he34
        revert h35
        refine im (go_iinc (pc := 74) (Y := YX14_into) 3 (v := (v3 + 1)) (ls2 := [(3, iV (v3 + 1)), (0, rV (some this)), (1, iV i1), (2, iV v15)]) dX14_into_74 rfl rfl (Nat.le_of_ble_eq_true rfl) rfl) ?_
        refine im (go_goto (pc := 77) (Y := YX14_into) 6 dX14_into_77 (by decide)) ?_
        exact fun hq => go_sub [1, 2, 3, 0] rfl (ih _ _ _ hq hx)
      clear h35
      revert he34
      refine flp2 (go_if_ne (pc := 28) (Y := YX14_into) 74 dX14_into_28 (by decide)) ?_ ?_
      · refine im (go_aload_n (pc := 31) (Y := YX14_into) 0 dX14_into_31 rfl rfl) ?_
        refine flp (go_gR (pc := 32) (Y := YX14_into) fF1035 (by decide) q1059 (Or.inl rfl) dX14_into_32) (fun v16 => ?_)
        refine flp (go_gR (pc := 35) (Y := YX14_into) fF1027 (by decide) q341 (Or.inl rfl) dX14_into_35) (fun v17 => ?_)
        refine im (go_iload_n (pc := 38) (Y := YX14_into) 3 dX14_into_38 rfl rfl) ?_
        refine ivg (fun w18 r19 k20 => ?_)
        refine bpg (fun v21 he22 => ?_)
        refine im (go_callV (pc := 39) (Y := YX14_into) (Yc := YJ2_get) (y := yJ2_get) (n := 1) (c0 := 1) (q := (RJ2, TJ2, 3)) w18 [iV v3] [] (by rw [r19]; rfl) rfl k20 (mJ2_get s1 he22) YOK_J2_get rfl q769 q132 q767 q768 q1220 (Nat.le_of_ble_eq_true rfl) (Nat.le_of_ble_eq_true rfl) (Nat.le_of_ble_eq_true rfl) dX14_into_39 (st2 := [rV v21]) rfl) ?_
        clear he22
        refine flp (go_cast (pc := 42) (Y := YX14_into) (cs := [15]) (nm := "ThirdWitness$Sight") (by decide +kernel) q1221 dX14_into_42) (fun h23 => ?_)
        revert h23
        refine flp (go_gI (pc := 45) (Y := YX14_into) fF63 (by decide) q866 (Or.inl rfl) dX14_into_45) (fun v24 => ?_)
        refine im (go_iload_n (pc := 48) (Y := YX14_into) 1 dX14_into_48 rfl rfl) ?_
        refine flp2 (go_icmp_ne (pc := 49) (Y := YX14_into) 74 dX14_into_49 (by decide)) ?_ ?_
        · refine im (go_iload_n (pc := 52) (Y := YX14_into) 2 dX14_into_52 rfl rfl) ?_
          refine im (go_iconst (pc := 53) (Y := YX14_into) (v := 1) dX14_into_53 rfl) ?_
          refine im (go_aload_n (pc := 54) (Y := YX14_into) 0 dX14_into_54 rfl rfl) ?_
          refine flp (go_gR (pc := 55) (Y := YX14_into) fF1035 (by decide) q1059 (Or.inl rfl) dX14_into_55) (fun v25 => ?_)
          refine flp (go_gR (pc := 58) (Y := YX14_into) fF1027 (by decide) q341 (Or.inl rfl) dX14_into_58) (fun v26 => ?_)
          refine im (go_iload_n (pc := 61) (Y := YX14_into) 3 dX14_into_61 rfl rfl) ?_
          refine ivg (fun w27 r28 k29 => ?_)
          refine bpg (fun v30 he31 => ?_)
          refine im (go_callV (pc := 62) (Y := YX14_into) (Yc := YJ2_get) (y := yJ2_get) (n := 1) (c0 := 1) (q := (RJ2, TJ2, 3)) w27 [iV v3] [iV 1, iV v2] (by rw [r28]; rfl) rfl k29 (mJ2_get s1 he31) YOK_J2_get rfl q769 q132 q767 q768 q1220 (Nat.le_of_ble_eq_true rfl) (Nat.le_of_ble_eq_true rfl) (Nat.le_of_ble_eq_true rfl) dX14_into_62 (st2 := [rV v30, iV 1, iV v2]) rfl) ?_
          clear he31
          refine flp (go_cast (pc := 65) (Y := YX14_into) (cs := [15]) (nm := "ThirdWitness$Sight") (by decide +kernel) q1221 dX14_into_65) (fun h32 => ?_)
          revert h32
          refine flp (go_gI (pc := 68) (Y := YX14_into) fF64 (by decide) q870 (Or.inl rfl) dX14_into_68) (fun v33 => ?_)
          refine im (go_ishl (pc := 71) (Y := YX14_into) dX14_into_71) ?_
          refine im (go_ior (pc := 72) (Y := YX14_into) dX14_into_72) ?_
          refine im (go_istore_n (pc := 73) (Y := YX14_into) (ls2 := [(2, iV (v2 ||| ((1 : Int32) <<< (v33 &&& 31)))), (0, rV (some this)), (1, iV i1), (3, iV v3)]) dX14_into_73 rfl (Nat.le_of_ble_eq_true rfl) rfl) ?_
          refine e1 (fun q0 => ?_)
          subst q0
          exact go_sub [1, 2, 0, 3] rfl hj74
        · refine e1 (fun q0 => ?_)
          subst q0
          exact go_sub [0, 1, 2, 3] rfl hj74
      · refine e1 (fun q0 => ?_)
        subst q0
        exact go_sub [0, 1, 2, 3] rfl hj74
theorem mX14_into {G : gG} (s0 : St) {this : Nat} {p0 : Int32} {vE : Int32} (h : sX14_into s0 this p0 = some vE) : Mt G YX14_into yX14_into [rV (some this), iV p0] s0 (some (iV vE)) s0 := by
  refine go_start (ls0 := [(0, rV (some this)), (1, iV p0)]) (by decide +kernel) rfl (fun h => by cases h) (Nat.le_of_ble_eq_true rfl) rfl ?_
  revert h
  unfold sX14_into
  refine im (go_iconst (pc := 0) (Y := YX14_into) (v := 1) dX14_into_0 rfl) ?_
  refine im (go_iload_n (pc := 1) (Y := YX14_into) 1 dX14_into_1 rfl rfl) ?_
  refine im (go_ishl (pc := 2) (Y := YX14_into) dX14_into_2) ?_
  refine im (go_istore_n (pc := 3) (Y := YX14_into) (ls2 := [(2, iV ((1 : Int32) <<< (p0 &&& 31))), (0, rV (some this)), (1, iV p0)]) dX14_into_3 rfl (Nat.le_of_ble_eq_true rfl) rfl) ?_
  refine im (go_iconst (pc := 4) (Y := YX14_into) (v := 0) dX14_into_4 rfl) ?_
  refine im (go_istore_n (pc := 5) (Y := YX14_into) (ls2 := [(3, iV 0), (2, iV ((1 : Int32) <<< (p0 &&& 31))), (0, rV (some this)), (1, iV p0)]) dX14_into_5 rfl (Nat.le_of_ble_eq_true rfl) rfl) ?_
  refine bpg (fun v36 he37 h38 => ?_)
  refine go_sub [2, 3, 1, 0] rfl (sX14_into_L6_go s0 this p0 FU _ _ _ he37 ?_)
  clear he37
  revert h38
  refine im (go_iload_n (pc := 80) (Y := YX14_into) 0 dX14_into_80 rfl rfl) ?_
  refine e1 (fun q0 => ?_)
  subst q0
  exact go_iret (pc := 81) (Y := YX14_into) rfl dX14_into_81
abbrev YX14_onto : mY := (RX14, cX14_onto, 4, (Option.some .int), 3, 64, false)
theorem YOK_X14_onto : YOK yX14_onto 1 := ⟨⟨by decide +kernel, by decide +kernel⟩, by decide +kernel⟩
theorem sX14_onto_L6_go {G : gG} {s0 sE : St} {rE : Option V3} (s1 : St) (this : Nat) (i1 : Int32) : ∀ (n : Nat) (v2 : Int32) (v3 : Int32) (v4 : Int32), sX14_onto_L6 s1 this i1 n v2 v3 = some v4 → Go G YX14_onto s0 sE rE 80 [(2, iV v4)] [] s1 → Go G YX14_onto s0 sE rE 6 [(0, rV (some this)), (1, iV i1), (2, iV v2), (3, iV v3)] [] s1 := by
  intro n
  induction n with
  | zero => intro v2 v3 v4 h hx; rw [sX14_onto_L6] at h; cases h
  | succ n ih =>
    intro v2 v3 v4 h hx
    revert h
    rw [sX14_onto_L6]
    refine im (go_iload_n (pc := 6) (Y := YX14_onto) 3 dX14_onto_6 rfl rfl) ?_
    refine im (go_aload_n (pc := 7) (Y := YX14_onto) 0 dX14_onto_7 rfl rfl) ?_
    refine flp (go_gR (pc := 8) (Y := YX14_onto) fF1035 (by decide) q1059 (Or.inl rfl) dX14_onto_8) (fun v5 => ?_)
    refine flp (go_gR (pc := 11) (Y := YX14_onto) fF1027 (by decide) q341 (Or.inl rfl) dX14_onto_11) (fun v6 => ?_)
    refine ivg (fun w7 r8 k9 => ?_)
    refine bpg (fun v10 he11 => ?_)
    refine im (go_callV (pc := 14) (Y := YX14_onto) (Yc := YJ2_size) (y := yJ2_size) (n := 0) (c0 := 1) (q := (RJ2, TJ2, 3)) w7 [] [iV v3] (by rw [r8]; rfl) rfl k9 (mJ2_size s1 he11) YOK_J2_size rfl q733 q132 q731 q732 q1218 (Nat.le_of_ble_eq_true rfl) (Nat.le_of_ble_eq_true rfl) (Nat.le_of_ble_eq_true rfl) dX14_onto_14 (st2 := [iV v10, iV v3]) rfl) ?_
    clear he11
    refine flp2 (go_icmp_ge (pc := 17) (Y := YX14_onto) 80 dX14_onto_17 (by decide)) ?_ ?_
    · refine e1 (fun q0 => ?_)
      subst q0
      exact go_sub [2] rfl hx
    · refine im (go_aload_n (pc := 20) (Y := YX14_onto) 0 dX14_onto_20 rfl rfl) ?_
      refine flp (go_gI (pc := 21) (Y := YX14_onto) fF77 (by decide) q1062 (Or.inl rfl) dX14_onto_21) (fun v12 => ?_)
      refine im (go_iload_n (pc := 24) (Y := YX14_onto) 3 dX14_onto_24 rfl rfl) ?_
      refine bpg (fun v13 he14 => ?_)
      refine im (go_callSN (pc := 25) (Y := YX14_onto) (Yc := YX1_has) (y := yX1_has) (n := 2) (host := "ThirdWitness") [iV v12, iV v3] [] rfl (mX1_has s1 he14) YOK_X1_has rfl q1176 q129 q1175 (by decide +kernel) (Nat.le_of_ble_eq_true rfl) (Nat.le_of_ble_eq_true rfl) (Nat.le_of_ble_eq_true rfl) dX14_onto_25 (st2 := [iV v13]) rfl) ?_
      clear he14
      refine bpg (fun v15 he34 h35 => ?_)
      have hj74 : Go G YX14_onto s0 sE rE 74 [(0, rV (some this)), (1, iV i1), (2, iV v15), (3, iV v3)] [] s1 := by
        clear he34
        revert h35
        refine im (go_iinc (pc := 74) (Y := YX14_onto) 3 (v := (v3 + 1)) (ls2 := [(3, iV (v3 + 1)), (0, rV (some this)), (1, iV i1), (2, iV v15)]) dX14_onto_74 rfl rfl (Nat.le_of_ble_eq_true rfl) rfl) ?_
        refine im (go_goto (pc := 77) (Y := YX14_onto) 6 dX14_onto_77 (by decide)) ?_
        exact fun hq => go_sub [1, 2, 3, 0] rfl (ih _ _ _ hq hx)
      clear h35
      revert he34
      refine flp2 (go_if_ne (pc := 28) (Y := YX14_onto) 74 dX14_onto_28 (by decide)) ?_ ?_
      · refine im (go_aload_n (pc := 31) (Y := YX14_onto) 0 dX14_onto_31 rfl rfl) ?_
        refine flp (go_gR (pc := 32) (Y := YX14_onto) fF1035 (by decide) q1059 (Or.inl rfl) dX14_onto_32) (fun v16 => ?_)
        refine flp (go_gR (pc := 35) (Y := YX14_onto) fF1027 (by decide) q341 (Or.inl rfl) dX14_onto_35) (fun v17 => ?_)
        refine im (go_iload_n (pc := 38) (Y := YX14_onto) 3 dX14_onto_38 rfl rfl) ?_
        refine ivg (fun w18 r19 k20 => ?_)
        refine bpg (fun v21 he22 => ?_)
        refine im (go_callV (pc := 39) (Y := YX14_onto) (Yc := YJ2_get) (y := yJ2_get) (n := 1) (c0 := 1) (q := (RJ2, TJ2, 3)) w18 [iV v3] [] (by rw [r19]; rfl) rfl k20 (mJ2_get s1 he22) YOK_J2_get rfl q769 q132 q767 q768 q1220 (Nat.le_of_ble_eq_true rfl) (Nat.le_of_ble_eq_true rfl) (Nat.le_of_ble_eq_true rfl) dX14_onto_39 (st2 := [rV v21]) rfl) ?_
        clear he22
        refine flp (go_cast (pc := 42) (Y := YX14_onto) (cs := [15]) (nm := "ThirdWitness$Sight") (by decide +kernel) q1221 dX14_onto_42) (fun h23 => ?_)
        revert h23
        refine flp (go_gI (pc := 45) (Y := YX14_onto) fF64 (by decide) q870 (Or.inl rfl) dX14_onto_45) (fun v24 => ?_)
        refine im (go_iload_n (pc := 48) (Y := YX14_onto) 1 dX14_onto_48 rfl rfl) ?_
        refine flp2 (go_icmp_ne (pc := 49) (Y := YX14_onto) 74 dX14_onto_49 (by decide)) ?_ ?_
        · refine im (go_iload_n (pc := 52) (Y := YX14_onto) 2 dX14_onto_52 rfl rfl) ?_
          refine im (go_iconst (pc := 53) (Y := YX14_onto) (v := 1) dX14_onto_53 rfl) ?_
          refine im (go_aload_n (pc := 54) (Y := YX14_onto) 0 dX14_onto_54 rfl rfl) ?_
          refine flp (go_gR (pc := 55) (Y := YX14_onto) fF1035 (by decide) q1059 (Or.inl rfl) dX14_onto_55) (fun v25 => ?_)
          refine flp (go_gR (pc := 58) (Y := YX14_onto) fF1027 (by decide) q341 (Or.inl rfl) dX14_onto_58) (fun v26 => ?_)
          refine im (go_iload_n (pc := 61) (Y := YX14_onto) 3 dX14_onto_61 rfl rfl) ?_
          refine ivg (fun w27 r28 k29 => ?_)
          refine bpg (fun v30 he31 => ?_)
          refine im (go_callV (pc := 62) (Y := YX14_onto) (Yc := YJ2_get) (y := yJ2_get) (n := 1) (c0 := 1) (q := (RJ2, TJ2, 3)) w27 [iV v3] [iV 1, iV v2] (by rw [r28]; rfl) rfl k29 (mJ2_get s1 he31) YOK_J2_get rfl q769 q132 q767 q768 q1220 (Nat.le_of_ble_eq_true rfl) (Nat.le_of_ble_eq_true rfl) (Nat.le_of_ble_eq_true rfl) dX14_onto_62 (st2 := [rV v30, iV 1, iV v2]) rfl) ?_
          clear he31
          refine flp (go_cast (pc := 65) (Y := YX14_onto) (cs := [15]) (nm := "ThirdWitness$Sight") (by decide +kernel) q1221 dX14_onto_65) (fun h32 => ?_)
          revert h32
          refine flp (go_gI (pc := 68) (Y := YX14_onto) fF63 (by decide) q866 (Or.inl rfl) dX14_onto_68) (fun v33 => ?_)
          refine im (go_ishl (pc := 71) (Y := YX14_onto) dX14_onto_71) ?_
          refine im (go_ior (pc := 72) (Y := YX14_onto) dX14_onto_72) ?_
          refine im (go_istore_n (pc := 73) (Y := YX14_onto) (ls2 := [(2, iV (v2 ||| ((1 : Int32) <<< (v33 &&& 31)))), (0, rV (some this)), (1, iV i1), (3, iV v3)]) dX14_onto_73 rfl (Nat.le_of_ble_eq_true rfl) rfl) ?_
          refine e1 (fun q0 => ?_)
          subst q0
          exact go_sub [1, 2, 0, 3] rfl hj74
        · refine e1 (fun q0 => ?_)
          subst q0
          exact go_sub [0, 1, 2, 3] rfl hj74
      · refine e1 (fun q0 => ?_)
        subst q0
        exact go_sub [0, 1, 2, 3] rfl hj74
theorem mX14_onto {G : gG} (s0 : St) {this : Nat} {p0 : Int32} {vE : Int32} (h : sX14_onto s0 this p0 = some vE) : Mt G YX14_onto yX14_onto [rV (some this), iV p0] s0 (some (iV vE)) s0 := by
  refine go_start (ls0 := [(0, rV (some this)), (1, iV p0)]) (by decide +kernel) rfl (fun h => by cases h) (Nat.le_of_ble_eq_true rfl) rfl ?_
  revert h
  unfold sX14_onto
  refine im (go_iconst (pc := 0) (Y := YX14_onto) (v := 1) dX14_onto_0 rfl) ?_
  refine im (go_iload_n (pc := 1) (Y := YX14_onto) 1 dX14_onto_1 rfl rfl) ?_
  refine im (go_ishl (pc := 2) (Y := YX14_onto) dX14_onto_2) ?_
  refine im (go_istore_n (pc := 3) (Y := YX14_onto) (ls2 := [(2, iV ((1 : Int32) <<< (p0 &&& 31))), (0, rV (some this)), (1, iV p0)]) dX14_onto_3 rfl (Nat.le_of_ble_eq_true rfl) rfl) ?_
  refine im (go_iconst (pc := 4) (Y := YX14_onto) (v := 0) dX14_onto_4 rfl) ?_
  refine im (go_istore_n (pc := 5) (Y := YX14_onto) (ls2 := [(3, iV 0), (2, iV ((1 : Int32) <<< (p0 &&& 31))), (0, rV (some this)), (1, iV p0)]) dX14_onto_5 rfl (Nat.le_of_ble_eq_true rfl) rfl) ?_
  refine bpg (fun v36 he37 h38 => ?_)
  refine go_sub [2, 3, 1, 0] rfl (sX14_onto_L6_go s0 this p0 FU _ _ _ he37 ?_)
  clear he37
  revert h38
  refine im (go_iload_n (pc := 80) (Y := YX14_onto) 0 dX14_onto_80 rfl rfl) ?_
  refine e1 (fun q0 => ?_)
  subst q0
  exact go_iret (pc := 81) (Y := YX14_onto) rfl dX14_onto_81
abbrev YX14_watchers : mY := (RX14, cX14_watchers, 6, (Option.some .int), 5, 107, false)
theorem YOK_X14_watchers : YOK yX14_watchers 2 := ⟨⟨by decide +kernel, by decide +kernel⟩, by decide +kernel⟩
theorem sX14_watchers_L12_go {G : gG} {s0 sE : St} {rE : Option V3} (s4 : St) (this : Nat) (i2 : Int32) (i3 : Int32) : ∀ (n : Nat) (v5 : Int32) (v6 : Int32) (v7 : Int32), sX14_watchers_L12 s4 this i2 i3 n v5 v6 = some v7 → Go G YX14_watchers s0 sE rE 60 [(4, iV v7)] [] s4 → Go G YX14_watchers s0 sE rE 12 [(0, rV (some this)), (2, iV i2), (3, iV i3), (4, iV v5), (5, iV v6)] [] s4 := by
  intro n
  induction n with
  | zero => intro v5 v6 v7 h hx; rw [sX14_watchers_L12] at h; cases h
  | succ n ih =>
    intro v5 v6 v7 h hx
    revert h
    rw [sX14_watchers_L12]
    refine im (go_iload (pc := 12) (Y := YX14_watchers) 4 dX14_watchers_12 rfl) ?_
    refine im (go_aload_n (pc := 14) (Y := YX14_watchers) 0 dX14_watchers_14 rfl rfl) ?_
    refine flp (go_gR (pc := 15) (Y := YX14_watchers) fF1035 (by decide) q1059 (Or.inl rfl) dX14_watchers_15) (fun v8 => ?_)
    refine flp (go_gR (pc := 18) (Y := YX14_watchers) fF1025 (by decide) q334 (Or.inl rfl) dX14_watchers_18) (fun v9 => ?_)
    refine ivg (fun w10 r11 k12 => ?_)
    refine bpg (fun v13 he14 => ?_)
    refine im (go_callV (pc := 21) (Y := YX14_watchers) (Yc := YJ2_size) (y := yJ2_size) (n := 0) (c0 := 1) (q := (RJ2, TJ2, 3)) w10 [] [iV v6] (by rw [r11]; rfl) rfl k12 (mJ2_size s4 he14) YOK_J2_size rfl q733 q132 q731 q732 q1218 (Nat.le_of_ble_eq_true rfl) (Nat.le_of_ble_eq_true rfl) (Nat.le_of_ble_eq_true rfl) dX14_watchers_21 (st2 := [iV v13, iV v6]) rfl) ?_
    clear he14
    refine flp2 (go_icmp_ge (pc := 24) (Y := YX14_watchers) 60 dX14_watchers_24 (by decide)) ?_ ?_
    · refine e1 (fun q0 => ?_)
      subst q0
      exact go_sub [3] rfl hx
    · refine im (go_iload (pc := 27) (Y := YX14_watchers) 3 dX14_watchers_27 rfl) ?_
      refine im (go_iload_n (pc := 29) (Y := YX14_watchers) 2 dX14_watchers_29 rfl rfl) ?_
      refine im (go_aload_n (pc := 30) (Y := YX14_watchers) 0 dX14_watchers_30 rfl rfl) ?_
      refine im (go_iload (pc := 31) (Y := YX14_watchers) 4 dX14_watchers_31 rfl) ?_
      refine im (go_iload_n (pc := 33) (Y := YX14_watchers) 1 dX14_watchers_33 rfl rfl) ?_
      refine kdg (fun k15 => ?_)
      refine bpg (fun v16 he17 => ?_)
      refine im (go_callV (pc := 34) (Y := YX14_watchers) (Yc := YX14_at) (y := yX14_at) (n := 2) (c0 := 16) (q := (RX14, TX14, 4)) this [iV v6, iV i2] [iV i3, iV v5] rfl rfl k15 (mX14_at s4 he17) YOK_X14_at rfl q1196 q156 q1194 q1195 q1234 (Nat.le_of_ble_eq_true rfl) (Nat.le_of_ble_eq_true rfl) (Nat.le_of_ble_eq_true rfl) dX14_watchers_34 (st2 := [iV v16, iV i3, iV v5]) rfl) ?_
      clear he17
      refine bpg (fun v18 he19 => ?_)
      refine im (go_callSN (pc := 37) (Y := YX14_watchers) (Yc := YX1_has) (y := yX1_has) (n := 2) (host := "ThirdWitness") [iV i3, iV v16] [iV v5] rfl (mX1_has s4 he19) YOK_X1_has rfl q1176 q129 q1175 (by decide +kernel) (Nat.le_of_ble_eq_true rfl) (Nat.le_of_ble_eq_true rfl) (Nat.le_of_ble_eq_true rfl) dX14_watchers_37 (st2 := [iV v18, iV v5]) rfl) ?_
      clear he19
      refine bpg (fun v20 he21 h22 => ?_)
      have hj51 : Go G YX14_watchers s0 sE rE 51 [(0, rV (some this)), (2, iV i2), (3, iV i3), (5, iV v6)] [iV v20, iV v5] s4 := by
        clear he21
        revert h22
        refine im (go_ior (pc := 51) (Y := YX14_watchers) dX14_watchers_51) ?_
        refine im (go_istore (pc := 52) (Y := YX14_watchers) (ls2 := [(4, iV (v5 ||| v20)), (0, rV (some this)), (2, iV i2), (3, iV i3), (5, iV v6)]) dX14_watchers_52 (Nat.le_of_ble_eq_true rfl) rfl) ?_
        refine im (go_iinc (pc := 54) (Y := YX14_watchers) 4 (v := (v6 + 1)) (ls2 := [(5, iV (v6 + 1)), (4, iV (v5 ||| v20)), (0, rV (some this)), (2, iV i2), (3, iV i3)]) dX14_watchers_54 rfl rfl (Nat.le_of_ble_eq_true rfl) rfl) ?_
        refine im (go_goto (pc := 57) (Y := YX14_watchers) 12 dX14_watchers_57 (by decide)) ?_
        exact fun hq => go_sub [2, 3, 4, 1, 0] rfl (ih _ _ _ hq hx)
      clear h22
      revert he21
      refine flp2 (go_if_eq (pc := 40) (Y := YX14_watchers) 50 dX14_watchers_40 (by decide)) ?_ ?_
      · refine im (go_iconst (pc := 50) (Y := YX14_watchers) (v := 0) dX14_watchers_50 rfl) ?_
        refine e1 (fun q0 => ?_)
        subst q0
        exact go_sub [0, 1, 2, 4] rfl hj51
      · refine im (go_iconst (pc := 43) (Y := YX14_watchers) (v := 1) dX14_watchers_43 rfl) ?_
        refine im (go_iload (pc := 44) (Y := YX14_watchers) 4 dX14_watchers_44 rfl) ?_
        refine im (go_ishl (pc := 46) (Y := YX14_watchers) dX14_watchers_46) ?_
        refine im (go_goto (pc := 47) (Y := YX14_watchers) 51 dX14_watchers_47 (by decide)) ?_
        refine e1 (fun q0 => ?_)
        subst q0
        exact go_sub [0, 1, 2, 4] rfl hj51
theorem mX14_watchers {G : gG} (s0 : St) {this : Nat} {p0 : Int32} {p1 : Int32} {vE : Int32} (h : sX14_watchers s0 this p0 p1 = some vE) : Mt G YX14_watchers yX14_watchers [rV (some this), iV p0, iV p1] s0 (some (iV vE)) s0 := by
  refine go_start (ls0 := [(0, rV (some this)), (1, iV p0), (2, iV p1)]) (by decide +kernel) rfl (fun h => by cases h) (Nat.le_of_ble_eq_true rfl) rfl ?_
  revert h
  unfold sX14_watchers
  refine im (go_aload_n (pc := 0) (Y := YX14_watchers) 0 dX14_watchers_0 rfl rfl) ?_
  refine im (go_iload_n (pc := 1) (Y := YX14_watchers) 1 dX14_watchers_1 rfl rfl) ?_
  refine kdg (fun k1 => ?_)
  refine bpg (fun v2 he3 => ?_)
  refine im (go_callV (pc := 2) (Y := YX14_watchers) (Yc := YX14_onto) (y := yX14_onto) (n := 1) (c0 := 16) (q := (RX14, TX14, 4)) this [iV p0] [] rfl rfl k1 (mX14_onto s0 he3) YOK_X14_onto rfl q1233 q156 q1231 q1232 q1230 (Nat.le_of_ble_eq_true rfl) (Nat.le_of_ble_eq_true rfl) (Nat.le_of_ble_eq_true rfl) dX14_watchers_2 (st2 := [iV v2]) rfl) ?_
  clear he3
  refine im (go_istore_n (pc := 5) (Y := YX14_watchers) (ls2 := [(3, iV v2), (0, rV (some this)), (1, iV p0), (2, iV p1)]) dX14_watchers_5 rfl (Nat.le_of_ble_eq_true rfl) rfl) ?_
  refine im (go_iconst (pc := 6) (Y := YX14_watchers) (v := 0) dX14_watchers_6 rfl) ?_
  refine im (go_istore (pc := 7) (Y := YX14_watchers) (ls2 := [(4, iV 0), (3, iV v2), (0, rV (some this)), (1, iV p0), (2, iV p1)]) dX14_watchers_7 (Nat.le_of_ble_eq_true rfl) rfl) ?_
  refine im (go_iconst (pc := 9) (Y := YX14_watchers) (v := 0) dX14_watchers_9 rfl) ?_
  refine im (go_istore (pc := 10) (Y := YX14_watchers) (ls2 := [(5, iV 0), (4, iV 0), (3, iV v2), (0, rV (some this)), (1, iV p0), (2, iV p1)]) dX14_watchers_10 (Nat.le_of_ble_eq_true rfl) rfl) ?_
  refine bpg (fun v23 he24 h25 => ?_)
  refine go_sub [3, 5, 2, 1, 0] rfl (sX14_watchers_L12_go s0 this p1 v2 FU _ _ _ he24 ?_)
  clear he24
  revert h25
  refine im (go_iload (pc := 60) (Y := YX14_watchers) 0 dX14_watchers_60 rfl) ?_
  refine e1 (fun q0 => ?_)
  subst q0
  exact go_iret (pc := 62) (Y := YX14_watchers) rfl dX14_watchers_62
