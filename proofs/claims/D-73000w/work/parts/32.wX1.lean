/-! WALKS (by gen/mkwalk.py out of the bytecode) -/
set_option maxRecDepth 100000
abbrev YX1_init : mY := (RX1, cX1_init, 1, (Option.none : Option Jvm.ClassFile.FieldType), 4, 86, true)
theorem YOK_X1_init : YOK yX1_init 0 := ⟨⟨by decide +kernel, by decide +kernel⟩, by decide +kernel⟩
theorem mX1_init {G : gG} (s0 : St) {this : Nat} {sE : St} (h : sX1_init s0 this = some sE) : Mt G YX1_init yX1_init [rV (some this)] s0 none sE := by
  refine go_start (ls0 := [(0, rV (some this))]) (by decide +kernel) rfl (fun _ => rfl) (Nat.le_of_ble_eq_true rfl) rfl ?_
  revert h
  unfold sX1_init
  refine im (go_aload_n (pc := 0) (Y := YX1_init) 0 dX1_init_0 rfl rfl) ?_
  refine im (go_objI (pc := 1) (Y := YX1_init) q166 (Nat.le_of_ble_eq_true rfl) (Nat.le_of_ble_eq_true rfl) q167 q168 dX1_init_1) ?_
  refine im (go_aload_n (pc := 4) (Y := YX1_init) 0 dX1_init_4 rfl rfl) ?_
  refine im (go_sipush (pc := 5) (Y := YX1_init) (v := 900) dX1_init_5 rfl) ?_
  refine flp (go_nwA2 (pc := 8) (Y := YX1_init) dX1_init_8) (fun s1 a2 => ?_)
  refine flp (go_pR (pc := 10) (Y := YX1_init) fF1000 (by decide) q196 (Or.inl rfl) (Or.inr ⟨rfl, rfl⟩) rfl (Or.inr ⟨_, rfl⟩) dX1_init_10) (fun s3 => ?_)
  refine im (go_aload_n (pc := 13) (Y := YX1_init) 0 dX1_init_13 rfl rfl) ?_
  refine im (go_iconst (pc := 14) (Y := YX1_init) (v := -1) dX1_init_14 rfl) ?_
  refine flp (go_pI (pc := 15) (Y := YX1_init) fF2 (by decide) q199 (Or.inl rfl) (Or.inl rfl) rfl rfl rfl dX1_init_15) (fun s4 => ?_)
  refine im (go_aload_n (pc := 18) (Y := YX1_init) 0 dX1_init_18 rfl rfl) ?_
  refine flp (go_nwO (pc := 19) (Y := YX1_init) (c0 := 1) (q := (RJ2, TJ2, 3)) rfl rfl q169 q170 q132 dX1_init_19) (fun s5 a6 => ?_)
  refine im (go_dup (pc := 22) (Y := YX1_init) dX1_init_22 rfl) ?_
  refine bpg (fun s7 he8 => ?_)
  refine im (go_callI (pc := 23) (Y := YX1_init) (Yc := YJ2_init) (y := yJ2_init) (n := 0) a6 [] [rV (some a6), rV (some this)] rfl (mJ2_init s5 he8) YOK_J2_init rfl rfl q173 rfl q132 q172 q171 (Nat.le_of_ble_eq_true rfl) (Nat.le_of_ble_eq_true rfl) (Nat.le_of_ble_eq_true rfl) dX1_init_23 (st2 := [rV (some a6), rV (some this)]) rfl) ?_
  clear he8
  refine flp (go_pR (pc := 26) (Y := YX1_init) fF1004 (by decide) q204 (Or.inl rfl) (Or.inr ⟨rfl, rfl⟩) rfl (Or.inl ⟨_, rfl⟩) dX1_init_26) (fun s9 => ?_)
  refine im (go_aload_n (pc := 29) (Y := YX1_init) 0 dX1_init_29 rfl rfl) ?_
  refine flp (go_nwO (pc := 30) (Y := YX1_init) (c0 := 1) (q := (RJ2, TJ2, 3)) rfl rfl q169 q170 q132 dX1_init_30) (fun s10 a11 => ?_)
  refine im (go_dup (pc := 33) (Y := YX1_init) dX1_init_33 rfl) ?_
  refine bpg (fun s12 he13 => ?_)
  refine im (go_callI (pc := 34) (Y := YX1_init) (Yc := YJ2_init) (y := yJ2_init) (n := 0) a11 [] [rV (some a11), rV (some this)] rfl (mJ2_init s10 he13) YOK_J2_init rfl rfl q173 rfl q132 q172 q171 (Nat.le_of_ble_eq_true rfl) (Nat.le_of_ble_eq_true rfl) (Nat.le_of_ble_eq_true rfl) dX1_init_34 (st2 := [rV (some a11), rV (some this)]) rfl) ?_
  clear he13
  refine flp (go_pR (pc := 37) (Y := YX1_init) fF1005 (by decide) q205 (Or.inl rfl) (Or.inr ⟨rfl, rfl⟩) rfl (Or.inl ⟨_, rfl⟩) dX1_init_37) (fun s14 => ?_)
  refine im (go_aload_n (pc := 40) (Y := YX1_init) 0 dX1_init_40 rfl rfl) ?_
  refine im (go_iconst (pc := 41) (Y := YX1_init) (v := -1) dX1_init_41 rfl) ?_
  refine flp (go_pI (pc := 42) (Y := YX1_init) fF4 (by decide) q206 (Or.inl rfl) (Or.inl rfl) rfl rfl rfl dX1_init_42) (fun s15 => ?_)
  refine im (go_aload_n (pc := 45) (Y := YX1_init) 0 dX1_init_45 rfl rfl) ?_
  refine im (go_iconst (pc := 46) (Y := YX1_init) (v := 4) dX1_init_46 rfl) ?_
  refine flp (go_nwA1 (pc := 47) (Y := YX1_init) dX1_init_47) (fun s16 a17 => ?_)
  refine flp (go_pR (pc := 49) (Y := YX1_init) fF1006 (by decide) q218 (Or.inl rfl) (Or.inr ⟨rfl, rfl⟩) rfl (Or.inr ⟨_, rfl⟩) dX1_init_49) (fun s18 => ?_)
  refine im (go_aload_n (pc := 52) (Y := YX1_init) 0 dX1_init_52 rfl rfl) ?_
  refine im (go_iconst (pc := 53) (Y := YX1_init) (v := 3) dX1_init_53 rfl) ?_
  refine flp (go_nwA3 (pc := 54) (Y := YX1_init) dX1_init_54) (fun s19 a20 => ?_)
  refine flp (go_pR (pc := 56) (Y := YX1_init) fF1007 (by decide) q220 (Or.inl rfl) (Or.inr ⟨rfl, rfl⟩) rfl (Or.inr ⟨_, rfl⟩) dX1_init_56) (fun s21 => ?_)
  refine e1 (fun q0 => ?_)
  subst q0
  exact go_vret (pc := 59) (Y := YX1_init) rfl dX1_init_59
abbrev YX1_feed : mY := (RX1, cX1_feed, 8, (Option.some .int), 0, 0, false)
theorem YOK_X1_feed : YOK yX1_feed 5 := ⟨⟨by decide +kernel, by decide +kernel⟩, by decide +kernel⟩
theorem sX1_feed_L18_go {G : gG} {s0 sE : St} {rE : Option V3} (this : Nat) (i1 : Int32) (i2 : Int32) (i3 : Int32) (i4 : Int32) (i5 : Int32) : ∀ (n : Nat) (s2 : St) (v3 : Int32) (s4 : St), sX1_feed_L18 this i1 i2 i3 i4 i5 n s2 v3 = some s4 → Go G YX1_feed s0 sE rE 105 [(0, rV (some this))] [] s4 → Go G YX1_feed s0 sE rE 18 [(0, rV (some this)), (1, iV i1), (2, iV i2), (3, iV i3), (4, iV i4), (5, iV i5), (6, iV v3)] [] s2 := by
  intro n
  induction n with
  | zero => intro s2 v3 s4 h hx; rw [sX1_feed_L18] at h; cases h
  | succ n ih =>
    intro s2 v3 s4 h hx
    revert h
    rw [sX1_feed_L18]
    refine im (go_iload (pc := 18) (Y := YX1_feed) 6 dX1_feed_18 rfl) ?_
    refine im (go_bipush (pc := 20) (Y := YX1_feed) (v := 20) dX1_feed_20 rfl) ?_
    refine flp2 (go_icmp_ge (pc := 22) (Y := YX1_feed) 105 dX1_feed_22 (by decide)) ?_ ?_
    · refine e1 (fun q0 => ?_)
      subst q0
      exact go_sub [0] rfl hx
    · refine im (go_iload (pc := 25) (Y := YX1_feed) 6 dX1_feed_25 rfl) ?_
      refine im (go_iconst (pc := 27) (Y := YX1_feed) (v := 4) dX1_feed_27 rfl) ?_
      refine bpg (fun v5 he9 h10 => ?_)
      have hj71 : Go G YX1_feed s0 sE rE 71 [(0, rV (some this)), (1, iV i1), (2, iV i2), (3, iV i3), (4, iV i4), (5, iV i5), (6, iV v3)] [iV v5] s2 := by
        clear he9
        revert h10
        refine im (go_istore (pc := 71) (Y := YX1_feed) (ls2 := [(7, iV v5), (0, rV (some this)), (1, iV i1), (2, iV i2), (3, iV i3), (4, iV i4), (5, iV i5), (6, iV v3)]) dX1_feed_71 (Nat.le_of_ble_eq_true rfl) rfl) ?_
        refine im (go_aload_n (pc := 73) (Y := YX1_feed) 1 dX1_feed_73 rfl rfl) ?_
        refine flp (go_gR (pc := 74) (Y := YX1_feed) fF1000 (by decide) q196 (Or.inl rfl) dX1_feed_74) (fun v6 => ?_)
        refine im (go_aload_n (pc := 77) (Y := YX1_feed) 1 dX1_feed_77 rfl rfl) ?_
        refine flp (go_gI (pc := 78) (Y := YX1_feed) fF0 (by decide) q197 (Or.inl rfl) dX1_feed_78) (fun v7 => ?_)
        refine im (go_iload (pc := 81) (Y := YX1_feed) 7 dX1_feed_81 rfl) ?_
        refine im (go_iadd (pc := 83) (Y := YX1_feed) dX1_feed_83) ?_
        refine im (go_iload (pc := 84) (Y := YX1_feed) 0 dX1_feed_84 rfl) ?_
        refine im (go_bipush (pc := 86) (Y := YX1_feed) (v := 24) dX1_feed_86 rfl) ?_
        refine im (go_bipush (pc := 88) (Y := YX1_feed) (v := 8) dX1_feed_88 rfl) ?_
        refine im (go_iload (pc := 90) (Y := YX1_feed) 7 dX1_feed_90 rfl) ?_
        refine im (go_iconst (pc := 92) (Y := YX1_feed) (v := 4) dX1_feed_92 rfl) ?_
        refine flp (go_irem (pc := 93) (Y := YX1_feed) dX1_feed_93) (fun h => ?_)
        revert h
        refine im (go_imul (pc := 94) (Y := YX1_feed) dX1_feed_94) ?_
        refine im (go_isub (pc := 95) (Y := YX1_feed) dX1_feed_95) ?_
        refine im (go_iushr (pc := 96) (Y := YX1_feed) dX1_feed_96) ?_
        refine im (go_i2b (pc := 97) (Y := YX1_feed) dX1_feed_97) ?_
        refine flp (go_tB (pc := 98) (Y := YX1_feed) dX1_feed_98) (fun s8 => ?_)
        refine im (go_iinc (pc := 99) (Y := YX1_feed) 7 (v := (v3 + 1)) (ls2 := [(6, iV (v3 + 1)), (7, iV v5), (0, rV (some this)), (1, iV i1), (2, iV i2), (3, iV i3), (4, iV i4), (5, iV i5)]) dX1_feed_99 rfl rfl (Nat.le_of_ble_eq_true rfl) rfl) ?_
        refine im (go_goto (pc := 102) (Y := YX1_feed) 18 dX1_feed_102 (by decide)) ?_
        exact fun hq => go_sub [2, 3, 4, 5, 6, 7, 0] rfl (ih _ _ _ hq hx)
      clear h10
      revert he9
      refine flp2 (go_icmp_ge (pc := 28) (Y := YX1_feed) 35 dX1_feed_28 (by decide)) ?_ ?_
      · refine im (go_iload (pc := 35) (Y := YX1_feed) 6 dX1_feed_35 rfl) ?_
        refine im (go_bipush (pc := 37) (Y := YX1_feed) (v := 8) dX1_feed_37 rfl) ?_
        refine flp2 (go_icmp_ge (pc := 39) (Y := YX1_feed) 46 dX1_feed_39 (by decide)) ?_ ?_
        · refine im (go_iload (pc := 46) (Y := YX1_feed) 6 dX1_feed_46 rfl) ?_
          refine im (go_bipush (pc := 48) (Y := YX1_feed) (v := 12) dX1_feed_48 rfl) ?_
          refine flp2 (go_icmp_ge (pc := 50) (Y := YX1_feed) 57 dX1_feed_50 (by decide)) ?_ ?_
          · refine im (go_iload (pc := 57) (Y := YX1_feed) 6 dX1_feed_57 rfl) ?_
            refine im (go_bipush (pc := 59) (Y := YX1_feed) (v := 16) dX1_feed_59 rfl) ?_
            refine flp2 (go_icmp_ge (pc := 61) (Y := YX1_feed) 69 dX1_feed_61 (by decide)) ?_ ?_
            · refine im (go_iload (pc := 69) (Y := YX1_feed) 5 dX1_feed_69 rfl) ?_
              refine e1 (fun q0 => ?_)
              subst q0
              exact go_sub [0, 1, 2, 3, 4, 5, 6] rfl hj71
            · refine im (go_iload (pc := 64) (Y := YX1_feed) 4 dX1_feed_64 rfl) ?_
              refine im (go_goto (pc := 66) (Y := YX1_feed) 71 dX1_feed_66 (by decide)) ?_
              refine e1 (fun q0 => ?_)
              subst q0
              exact go_sub [0, 1, 2, 3, 4, 5, 6] rfl hj71
          · refine im (go_iload_n (pc := 53) (Y := YX1_feed) 3 dX1_feed_53 rfl rfl) ?_
            refine im (go_goto (pc := 54) (Y := YX1_feed) 71 dX1_feed_54 (by decide)) ?_
            refine e1 (fun q0 => ?_)
            subst q0
            exact go_sub [0, 1, 2, 3, 4, 5, 6] rfl hj71
        · refine im (go_iload_n (pc := 42) (Y := YX1_feed) 2 dX1_feed_42 rfl rfl) ?_
          refine im (go_goto (pc := 43) (Y := YX1_feed) 71 dX1_feed_43 (by decide)) ?_
          refine e1 (fun q0 => ?_)
          subst q0
          exact go_sub [0, 1, 2, 3, 4, 5, 6] rfl hj71
      · refine im (go_iload_n (pc := 31) (Y := YX1_feed) 1 dX1_feed_31 rfl rfl) ?_
        refine im (go_goto (pc := 32) (Y := YX1_feed) 71 dX1_feed_32 (by decide)) ?_
        refine e1 (fun q0 => ?_)
        subst q0
        exact go_sub [0, 1, 2, 3, 4, 5, 6] rfl hj71
theorem mX1_feed {G : gG} (s0 : St) {this : Nat} {p0 : Int32} {p1 : Int32} {p2 : Int32} {p3 : Int32} {p4 : Int32} {sE : St} {vE : Int32} (h : sX1_feed s0 this p0 p1 p2 p3 p4 = some (sE, vE)) : Mt G YX1_feed yX1_feed [rV (some this), iV p0, iV p1, iV p2, iV p3, iV p4] s0 (some (iV vE)) sE := by
  refine go_start (ls0 := [(0, rV (some this)), (1, iV p0), (2, iV p1), (3, iV p2), (4, iV p3), (5, iV p4)]) (by decide +kernel) rfl (fun h => by cases h) (Nat.le_of_ble_eq_true rfl) rfl ?_
  revert h
  unfold sX1_feed
  refine im (go_aload_n (pc := 0) (Y := YX1_feed) 0 dX1_feed_0 rfl rfl) ?_
  refine flp (go_gI (pc := 1) (Y := YX1_feed) fF0 (by decide) q197 (Or.inl rfl) dX1_feed_1) (fun v1 => ?_)
  refine im (go_bipush (pc := 4) (Y := YX1_feed) (v := 20) dX1_feed_4 rfl) ?_
  refine im (go_iadd (pc := 6) (Y := YX1_feed) dX1_feed_6) ?_
  refine im (go_sipush (pc := 7) (Y := YX1_feed) (v := 900) dX1_feed_7 rfl) ?_
  refine flp2 (go_icmp_le (pc := 10) (Y := YX1_feed) 15 dX1_feed_10 (by decide)) ?_ ?_
  · refine im (go_iconst (pc := 15) (Y := YX1_feed) (v := 0) dX1_feed_15 rfl) ?_
    refine im (go_istore (pc := 16) (Y := YX1_feed) (ls2 := [(6, iV 0), (0, rV (some this)), (1, iV p0), (2, iV p1), (3, iV p2), (4, iV p3), (5, iV p4)]) dX1_feed_16 (Nat.le_of_ble_eq_true rfl) rfl) ?_
    refine bpg (fun s11 he15 h16 => ?_)
    refine go_sub [1, 2, 3, 4, 5, 6, 0] rfl (sX1_feed_L18_go this p0 p1 p2 p3 p4 FU _ _ _ he15 ?_)
    clear he15
    revert h16
    refine im (go_aload_n (pc := 105) (Y := YX1_feed) 0 dX1_feed_105 rfl rfl) ?_
    refine im (go_dup (pc := 106) (Y := YX1_feed) dX1_feed_106 rfl) ?_
    refine flp (go_gI (pc := 107) (Y := YX1_feed) fF0 (by decide) q197 (Or.inl rfl) dX1_feed_107) (fun v12 => ?_)
    refine im (go_bipush (pc := 110) (Y := YX1_feed) (v := 20) dX1_feed_110 rfl) ?_
    refine im (go_iadd (pc := 112) (Y := YX1_feed) dX1_feed_112) ?_
    refine flp (go_pI (pc := 113) (Y := YX1_feed) fF0 (by decide) q197 (Or.inl rfl) (Or.inl rfl) rfl rfl rfl dX1_feed_113) (fun s13 => ?_)
    refine im (go_aload_n (pc := 116) (Y := YX1_feed) 0 dX1_feed_116 rfl rfl) ?_
    refine flp (go_gI (pc := 117) (Y := YX1_feed) fF0 (by decide) q197 (Or.inl rfl) dX1_feed_117) (fun v14 => ?_)
    refine e2 (fun q0 q1 => ?_)
    subst q0
    subst q1
    exact go_iret (pc := 120) (Y := YX1_feed) rfl dX1_feed_120
  · refine im (go_iconst (pc := 13) (Y := YX1_feed) (v := -1) dX1_feed_13 rfl) ?_
    refine e2 (fun q0 q1 => ?_)
    subst q0
    subst q1
    exact go_iret (pc := 14) (Y := YX1_feed) rfl dX1_feed_14
abbrev YX1_refused : mY := (RX1, cX1_refused, 2, (Option.some .int), 0, 0, false)
theorem YOK_X1_refused : YOK yX1_refused 1 := ⟨⟨by decide +kernel, by decide +kernel⟩, by decide +kernel⟩
theorem mX1_refused {G : gG} (s0 : St) {this : Nat} {p0 : Int32} {sE : St} {vE : Int32} (h : sX1_refused s0 this p0 = some (sE, vE)) : Mt G YX1_refused yX1_refused [rV (some this), iV p0] s0 (some (iV vE)) sE := by
  refine go_start (ls0 := [(0, rV (some this)), (1, iV p0)]) (by decide +kernel) rfl (fun h => by cases h) (Nat.le_of_ble_eq_true rfl) rfl ?_
  revert h
  unfold sX1_refused
  refine im (go_aload_n (pc := 0) (Y := YX1_refused) 0 dX1_refused_0 rfl rfl) ?_
  refine im (go_iload_n (pc := 1) (Y := YX1_refused) 1 dX1_refused_1 rfl rfl) ?_
  refine flp (go_pI (pc := 2) (Y := YX1_refused) fF3 (by decide) q200 (Or.inl rfl) (Or.inl rfl) rfl rfl rfl dX1_refused_2) (fun s1 => ?_)
  refine im (go_aload_n (pc := 5) (Y := YX1_refused) 0 dX1_refused_5 rfl rfl) ?_
  refine im (go_iconst (pc := 6) (Y := YX1_refused) (v := -1) dX1_refused_6 rfl) ?_
  refine flp (go_pI (pc := 7) (Y := YX1_refused) fF2 (by decide) q199 (Or.inl rfl) (Or.inl rfl) rfl rfl rfl dX1_refused_7) (fun s2 => ?_)
  refine im (go_iconst (pc := 10) (Y := YX1_refused) (v := -1) dX1_refused_10 rfl) ?_
  refine e2 (fun q0 q1 => ?_)
  subst q0
  subst q1
  exact go_iret (pc := 11) (Y := YX1_refused) rfl dX1_refused_11
abbrev YX1_places : mY := (RX1, cX1_places, 1, (Option.some .int), 1, 20, false)
theorem YOK_X1_places : YOK yX1_places 0 := ⟨⟨by decide +kernel, by decide +kernel⟩, by decide +kernel⟩
theorem mX1_places {G : gG} (s0 : St) {this : Nat} {vE : Int32} (h : sX1_places s0 this = some vE) : Mt G YX1_places yX1_places [rV (some this)] s0 (some (iV vE)) s0 := by
  refine go_start (ls0 := [(0, rV (some this))]) (by decide +kernel) rfl (fun h => by cases h) (Nat.le_of_ble_eq_true rfl) rfl ?_
  revert h
  unfold sX1_places
  refine im (go_aload_n (pc := 0) (Y := YX1_places) 0 dX1_places_0 rfl rfl) ?_
  refine flp (go_gR (pc := 1) (Y := YX1_places) fF1001 (by decide) q201 (Or.inl rfl) dX1_places_1) (fun v1 => ?_)
  refine flp (go_gR (pc := 4) (Y := YX1_places) fF1024 (by decide) q332 (Or.inl rfl) dX1_places_4) (fun v2 => ?_)
  refine ivg (fun w3 r4 k5 => ?_)
  refine bpg (fun v6 he7 => ?_)
  refine im (go_callV (pc := 7) (Y := YX1_places) (Yc := YJ2_size) (y := yJ2_size) (n := 0) (c0 := 1) (q := (RJ2, TJ2, 3)) w3 [] [] (by rw [r4]; rfl) rfl k5 (mJ2_size s0 he7) YOK_J2_size rfl q733 q132 q731 q732 q1098 (Nat.le_of_ble_eq_true rfl) (Nat.le_of_ble_eq_true rfl) (Nat.le_of_ble_eq_true rfl) dX1_places_7 (st2 := [iV v6]) rfl) ?_
  clear he7
  refine e1 (fun q0 => ?_)
  subst q0
  exact go_iret (pc := 10) (Y := YX1_places) rfl dX1_places_10
abbrev YX1_well : mY := (RX1, cX1_well, 2, (Option.some .int), 0, 0, false)
theorem YOK_X1_well : YOK yX1_well 1 := ⟨⟨by decide +kernel, by decide +kernel⟩, by decide +kernel⟩
theorem mX1_well {G : gG} (s0 : St) {this : Nat} {p0 : Int32} {sE : St} {vE : Int32} (h : sX1_well s0 this p0 = some (sE, vE)) : Mt G YX1_well yX1_well [rV (some this), iV p0] s0 (some (iV vE)) sE := by
  refine go_start (ls0 := [(0, rV (some this)), (1, iV p0)]) (by decide +kernel) rfl (fun h => by cases h) (Nat.le_of_ble_eq_true rfl) rfl ?_
  revert h
  unfold sX1_well
  refine im (go_aload_n (pc := 0) (Y := YX1_well) 0 dX1_well_0 rfl rfl) ?_
  refine im (go_iconst (pc := 1) (Y := YX1_well) (v := 0) dX1_well_1 rfl) ?_
  refine flp (go_pI (pc := 2) (Y := YX1_well) fF3 (by decide) q200 (Or.inl rfl) (Or.inl rfl) rfl rfl rfl dX1_well_2) (fun s1 => ?_)
  refine im (go_aload_n (pc := 5) (Y := YX1_well) 0 dX1_well_5 rfl rfl) ?_
  refine im (go_iconst (pc := 6) (Y := YX1_well) (v := -1) dX1_well_6 rfl) ?_
  refine flp (go_pI (pc := 7) (Y := YX1_well) fF2 (by decide) q199 (Or.inl rfl) (Or.inl rfl) rfl rfl rfl dX1_well_7) (fun s2 => ?_)
  refine im (go_iload_n (pc := 10) (Y := YX1_well) 1 dX1_well_10 rfl rfl) ?_
  refine e2 (fun q0 q1 => ?_)
  subst q0
  subst q1
  exact go_iret (pc := 11) (Y := YX1_well) rfl dX1_well_11
abbrev YX1_town : mY := (RX1, cX1_town, 4, (Option.some .int), 13, 289, false)
theorem YOK_X1_town : YOK yX1_town 1 := ⟨⟨by decide +kernel, by decide +kernel⟩, by decide +kernel⟩
theorem mX1_town {G : gG} (s0 : St) {this : Nat} {p0 : Int32} {sE : St} {vE : Int32} (h : sX1_town s0 this p0 = some (sE, vE)) : Mt G YX1_town yX1_town [rV (some this), iV p0] s0 (some (iV vE)) sE := by
  refine go_start (ls0 := [(0, rV (some this)), (1, iV p0)]) (by decide +kernel) rfl (fun h => by cases h) (Nat.le_of_ble_eq_true rfl) rfl ?_
  revert h
  unfold sX1_town
  refine im (go_iload_n (pc := 0) (Y := YX1_town) 1 dX1_town_0 rfl rfl) ?_
  refine im (go_iconst (pc := 1) (Y := YX1_town) (v := 0) dX1_town_1 rfl) ?_
  refine im (go_aload_n (pc := 2) (Y := YX1_town) 0 dX1_town_2 rfl rfl) ?_
  refine flp (go_gI (pc := 3) (Y := YX1_town) fF0 (by decide) q197 (Or.inl rfl) dX1_town_3) (fun v1 => ?_)
  refine bpg (fun v2 he3 => ?_)
  refine im (go_callS (pc := 6) (Y := YX1_town) (Yc := YX1_in) (y := yX1_in) (n := 3) [iV p0, iV 0, iV v1] [] rfl (mX1_in s0 he3) YOK_X1_in rfl q284 q129 q283 q282 (Nat.le_of_ble_eq_true rfl) (Nat.le_of_ble_eq_true rfl) (Nat.le_of_ble_eq_true rfl) dX1_town_6 (st2 := [iV v2]) rfl) ?_
  clear he3
  refine flp2 (go_if_ne (pc := 9) (Y := YX1_town) 18 dX1_town_9 (by decide)) ?_ ?_
  · refine im (go_aload_n (pc := 12) (Y := YX1_town) 0 dX1_town_12 rfl rfl) ?_
    refine im (go_iconst (pc := 13) (Y := YX1_town) (v := 2) dX1_town_13 rfl) ?_
    refine kdg (fun k4 => ?_)
    refine bdg (fun s5 v6 he7 => ?_)
    refine im (go_callV (pc := 14) (Y := YX1_town) (Yc := YX1_refused) (y := yX1_refused) (n := 1) (c0 := 0) (q := (RX1, TX1, 25)) this [iV 2] [] rfl rfl k4 (mX1_refused s0 he7) YOK_X1_refused rfl q288 q129 q287 qs0 q285 (Nat.le_of_ble_eq_true rfl) (Nat.le_of_ble_eq_true rfl) (Nat.le_of_ble_eq_true rfl) dX1_town_14 (st2 := [iV v6]) rfl) ?_
    clear he7
    refine e2 (fun q0 q1 => ?_)
    subst q0
    subst q1
    exact go_iret (pc := 17) (Y := YX1_town) rfl dX1_town_17
  · refine flp (go_nwO (pc := 18) (Y := YX1_town) (c0 := 3) (q := (RX3, TX3, 5)) rfl rfl q289 q290 q134 dX1_town_18) (fun s8 a9 => ?_)
    refine im (go_dup (pc := 21) (Y := YX1_town) dX1_town_21 rfl) ?_
    refine flp (go_nwO (pc := 22) (Y := YX1_town) (c0 := 4) (q := (RX4, TX4, 3)) rfl rfl q291 q292 q135 dX1_town_22) (fun s10 a11 => ?_)
    refine im (go_dup (pc := 25) (Y := YX1_town) dX1_town_25 rfl) ?_
    refine im (go_aload_n (pc := 26) (Y := YX1_town) 0 dX1_town_26 rfl rfl) ?_
    refine flp (go_gR (pc := 27) (Y := YX1_town) fF1000 (by decide) q196 (Or.inl rfl) dX1_town_27) (fun v12 => ?_)
    refine im (go_iload_n (pc := 30) (Y := YX1_town) 1 dX1_town_30 rfl rfl) ?_
    refine bpg (fun s13 he14 => ?_)
    refine im (go_callI (pc := 31) (Y := YX1_town) (Yc := YX4_init) (y := yX4_init) (n := 2) a11 [rV v12, iV p0] [rV (some a11), rV (some a9), rV (some a9)] rfl (mX4_init s10 he14) YOK_X4_init rfl rfl q295 rfl q135 q294 q293 (Nat.le_of_ble_eq_true rfl) (Nat.le_of_ble_eq_true rfl) (Nat.le_of_ble_eq_true rfl) dX1_town_31 (st2 := [rV (some a11), rV (some a9), rV (some a9)]) rfl) ?_
    clear he14
    refine bpg (fun s15 he16 => ?_)
    refine im (go_callI (pc := 34) (Y := YX1_town) (Yc := YX3_init) (y := yX3_init) (n := 1) a9 [rV (some a11)] [rV (some a9)] rfl (mX3_init s13 he16) YOK_X3_init rfl rfl q309 rfl q134 q308 q307 (Nat.le_of_ble_eq_true rfl) (Nat.le_of_ble_eq_true rfl) (Nat.le_of_ble_eq_true rfl) dX1_town_34 (st2 := [rV (some a9)]) rfl) ?_
    clear he16
    refine im (go_astore_n (pc := 37) (Y := YX1_town) (ls2 := [(2, rV (some a9)), (0, rV (some this)), (1, iV p0)]) dX1_town_37 rfl (Nat.le_of_ble_eq_true rfl) rfl) ?_
    refine im (go_aload_n (pc := 38) (Y := YX1_town) 1 dX1_town_38 rfl rfl) ?_
    refine im (go_iconst (pc := 39) (Y := YX1_town) (v := 0) dX1_town_39 rfl) ?_
    refine flp (go_pI (pc := 40) (Y := YX1_town) fF0 (by decide) q197 (Or.inl rfl) (Or.inl rfl) rfl rfl rfl dX1_town_40) (fun s17 => ?_)
    refine im (go_aload_n (pc := 43) (Y := YX1_town) 0 dX1_town_43 rfl rfl) ?_
    refine kdg (fun k18 => ?_)
    refine bdg (fun s19 v20 he21 => ?_)
    refine im (go_callV (pc := 44) (Y := YX1_town) (Yc := YX3_read) (y := yX3_read) (n := 0) (c0 := 3) (q := (RX3, TX3, 5)) a9 [] [] rfl rfl k18 (mX3_read s17 he21) YOK_X3_read rfl q611 q134 q609 q610 q608 (Nat.le_of_ble_eq_true rfl) (Nat.le_of_ble_eq_true rfl) (Nat.le_of_ble_eq_true rfl) dX1_town_44 (st2 := [rV v20]) rfl) ?_
    clear he21
    refine im (go_astore_n (pc := 47) (Y := YX1_town) (ls2 := [(3, rV v20), (2, rV (some a9)), (0, rV (some this)), (1, iV p0)]) dX1_town_47 rfl (Nat.le_of_ble_eq_true rfl) rfl) ?_
    refine im (go_aload_n (pc := 48) (Y := YX1_town) 2 dX1_town_48 rfl rfl) ?_
    refine im (go_aload_n (pc := 49) (Y := YX1_town) 1 dX1_town_49 rfl rfl) ?_
    refine flp (go_gIN (pc := 50) (Y := YX1_town) fF45 (by decide) (host := "ThirdWitness") (by decide +kernel) dX1_town_50) (fun v22 => ?_)
    refine flp (go_pI (pc := 53) (Y := YX1_town) fF1 (by decide) q198 (Or.inl rfl) (Or.inl rfl) rfl rfl rfl dX1_town_53) (fun s23 => ?_)
    refine im (go_aload_n (pc := 56) (Y := YX1_town) 0 dX1_town_56 rfl rfl) ?_
    refine flp2 (go_ifnonnull (pc := 57) (Y := YX1_town) 75 dX1_town_57 (by decide)) ?_ ?_
    · refine im (go_aload_n (pc := 60) (Y := YX1_town) 2 dX1_town_60 rfl rfl) ?_
      refine im (go_iconst (pc := 61) (Y := YX1_town) (v := 4) dX1_town_61 rfl) ?_
      refine flp (go_pI (pc := 62) (Y := YX1_town) fF3 (by decide) q200 (Or.inl rfl) (Or.inl rfl) rfl rfl rfl dX1_town_62) (fun s24 => ?_)
      refine im (go_aload_n (pc := 65) (Y := YX1_town) 2 dX1_town_65 rfl rfl) ?_
      refine im (go_aload_n (pc := 66) (Y := YX1_town) 1 dX1_town_66 rfl rfl) ?_
      refine flp (go_gIN (pc := 67) (Y := YX1_town) fF46 (by decide) (host := "ThirdWitness") (by decide +kernel) dX1_town_67) (fun v25 => ?_)
      refine flp (go_pI (pc := 70) (Y := YX1_town) fF2 (by decide) q199 (Or.inl rfl) (Or.inl rfl) rfl rfl rfl dX1_town_70) (fun s26 => ?_)
      refine im (go_iconst (pc := 73) (Y := YX1_town) (v := -1) dX1_town_73 rfl) ?_
      refine e2 (fun q0 q1 => ?_)
      subst q0
      subst q1
      exact go_iret (pc := 74) (Y := YX1_town) rfl dX1_town_74
    · refine im (go_aload_n (pc := 75) (Y := YX1_town) 2 dX1_town_75 rfl rfl) ?_
      refine im (go_aload_n (pc := 76) (Y := YX1_town) 0 dX1_town_76 rfl rfl) ?_
      refine flp (go_pR (pc := 77) (Y := YX1_town) fF1001 (by decide) q201 (Or.inl rfl) (Or.inl rfl) rfl (Or.inl ⟨_, rfl⟩) dX1_town_77) (fun s27 => ?_)
      refine im (go_aload_n (pc := 80) (Y := YX1_town) 2 dX1_town_80 rfl rfl) ?_
      refine flp (go_nwO (pc := 81) (Y := YX1_town) (c0 := 16) (q := (RX14, TX14, 4)) rfl rfl q1053 q1054 q156 dX1_town_81) (fun s28 a29 => ?_)
      refine im (go_dup (pc := 84) (Y := YX1_town) dX1_town_84 rfl) ?_
      refine im (go_aload_n (pc := 85) (Y := YX1_town) 2 dX1_town_85 rfl rfl) ?_
      refine flp (go_gR (pc := 86) (Y := YX1_town) fF1001 (by decide) q201 (Or.inl rfl) dX1_town_86) (fun v30 => ?_)
      refine bpg (fun s31 he32 => ?_)
      refine im (go_callI (pc := 89) (Y := YX1_town) (Yc := YX14_init) (y := yX14_init) (n := 1) a29 [rV v30] [rV (some a29), rV (some this)] rfl (mX14_init s28 he32) YOK_X14_init rfl rfl q1057 rfl q156 q1056 q1055 (Nat.le_of_ble_eq_true rfl) (Nat.le_of_ble_eq_true rfl) (Nat.le_of_ble_eq_true rfl) dX1_town_89 (st2 := [rV (some a29), rV (some this)]) rfl) ?_
      clear he32
      refine flp (go_pR (pc := 92) (Y := YX1_town) fF1002 (by decide) q202 (Or.inl rfl) (Or.inl rfl) rfl (Or.inl ⟨_, rfl⟩) dX1_town_92) (fun s33 => ?_)
      refine im (go_aload_n (pc := 95) (Y := YX1_town) 2 dX1_town_95 rfl rfl) ?_
      refine flp (go_gR (pc := 96) (Y := YX1_town) fF1002 (by decide) q202 (Or.inl rfl) dX1_town_96) (fun v34 => ?_)
      refine ivg (fun w35 r36 k37 => ?_)
      refine bpg (fun s38 he39 => ?_)
      refine im (go_callV (pc := 99) (Y := YX1_town) (Yc := YX14_begins) (y := yX14_begins) (n := 0) (c0 := 16) (q := (RX14, TX14, 4)) w35 [] [] (by rw [r36]; rfl) rfl k37 (mX14_begins s33 he39) YOK_X14_begins rfl q1078 q156 q1076 q1077 q1075 (Nat.le_of_ble_eq_true rfl) (Nat.le_of_ble_eq_true rfl) (Nat.le_of_ble_eq_true rfl) dX1_town_99 (st2 := []) rfl) ?_
      clear he39
      refine im (go_aload_n (pc := 102) (Y := YX1_town) 2 dX1_town_102 rfl rfl) ?_
      refine im (go_aload_n (pc := 103) (Y := YX1_town) 2 dX1_town_103 rfl rfl) ?_
      refine flp (go_gR (pc := 104) (Y := YX1_town) fF1002 (by decide) q202 (Or.inl rfl) dX1_town_104) (fun v40 => ?_)
      refine ivg (fun w41 r42 k43 => ?_)
      refine bdg (fun s44 v45 he46 => ?_)
      refine im (go_callV (pc := 107) (Y := YX1_town) (Yc := YX14_copy) (y := yX14_copy) (n := 0) (c0 := 16) (q := (RX14, TX14, 4)) w41 [] [rV (some this)] (by rw [r42]; rfl) rfl k43 (mX14_copy s38 he46) YOK_X14_copy rfl q1082 q156 q1080 q1081 q1079 (Nat.le_of_ble_eq_true rfl) (Nat.le_of_ble_eq_true rfl) (Nat.le_of_ble_eq_true rfl) dX1_town_107 (st2 := [rV v45, rV (some this)]) rfl) ?_
      clear he46
      refine flp (go_pR (pc := 110) (Y := YX1_town) fF1003 (by decide) q203 (Or.inl rfl) (Or.inl rfl) rfl (Or.inl ⟨_, rfl⟩) dX1_town_110) (fun s47 => ?_)
      refine im (go_aload_n (pc := 113) (Y := YX1_town) 2 dX1_town_113 rfl rfl) ?_
      refine flp (go_gR (pc := 114) (Y := YX1_town) fF1004 (by decide) q204 (Or.inl rfl) dX1_town_114) (fun v48 => ?_)
      refine ivg (fun w49 r50 k51 => ?_)
      refine bpg (fun s52 he53 => ?_)
      refine im (go_callV (pc := 117) (Y := YX1_town) (Yc := YJ2_clear) (y := yJ2_clear) (n := 0) (c0 := 1) (q := (RJ2, TJ2, 3)) w49 [] [] (by rw [r50]; rfl) rfl k51 (mJ2_clear s47 he53) YOK_J2_clear rfl q1093 q132 q1091 q1092 q1090 (Nat.le_of_ble_eq_true rfl) (Nat.le_of_ble_eq_true rfl) (Nat.le_of_ble_eq_true rfl) dX1_town_117 (st2 := []) rfl) ?_
      clear he53
      refine im (go_aload_n (pc := 120) (Y := YX1_town) 2 dX1_town_120 rfl rfl) ?_
      refine flp (go_gR (pc := 121) (Y := YX1_town) fF1005 (by decide) q205 (Or.inl rfl) dX1_town_121) (fun v54 => ?_)
      refine ivg (fun w55 r56 k57 => ?_)
      refine bpg (fun s58 he59 => ?_)
      refine im (go_callV (pc := 124) (Y := YX1_town) (Yc := YJ2_clear) (y := yJ2_clear) (n := 0) (c0 := 1) (q := (RJ2, TJ2, 3)) w55 [] [] (by rw [r56]; rfl) rfl k57 (mJ2_clear s52 he59) YOK_J2_clear rfl q1093 q132 q1091 q1092 q1090 (Nat.le_of_ble_eq_true rfl) (Nat.le_of_ble_eq_true rfl) (Nat.le_of_ble_eq_true rfl) dX1_town_124 (st2 := []) rfl) ?_
      clear he59
      refine im (go_aload_n (pc := 127) (Y := YX1_town) 2 dX1_town_127 rfl rfl) ?_
      refine im (go_aload_n (pc := 128) (Y := YX1_town) 2 dX1_town_128 rfl rfl) ?_
      refine kdg (fun k60 => ?_)
      refine bpg (fun v61 he62 => ?_)
      refine im (go_callV (pc := 129) (Y := YX1_town) (Yc := YX1_places) (y := yX1_places) (n := 0) (c0 := 0) (q := (RX1, TX1, 25)) this [] [rV (some this)] rfl rfl k60 (mX1_places s58 he62) YOK_X1_places rfl q1097 q129 q1096 qs28 q1094 (Nat.le_of_ble_eq_true rfl) (Nat.le_of_ble_eq_true rfl) (Nat.le_of_ble_eq_true rfl) dX1_town_129 (st2 := [iV v61, rV (some this)]) rfl) ?_
      clear he62
      refine kdg (fun k63 => ?_)
      refine bdg (fun s64 v65 he66 => ?_)
      refine im (go_callV (pc := 132) (Y := YX1_town) (Yc := YX1_well) (y := yX1_well) (n := 1) (c0 := 0) (q := (RX1, TX1, 25)) this [iV v61] [] rfl rfl k63 (mX1_well s58 he66) YOK_X1_well rfl q1102 q129 q1101 qs29 q1099 (Nat.le_of_ble_eq_true rfl) (Nat.le_of_ble_eq_true rfl) (Nat.le_of_ble_eq_true rfl) dX1_town_132 (st2 := [iV v65]) rfl) ?_
      clear he66
      refine e2 (fun q0 q1 => ?_)
      subst q0
      subst q1
      exact go_iret (pc := 135) (Y := YX1_town) rfl dX1_town_135
abbrev YX1_fault : mY := (RX1, cX1_fault, 1, (Option.some .int), 0, 0, false)
theorem YOK_X1_fault : YOK yX1_fault 0 := ⟨⟨by decide +kernel, by decide +kernel⟩, by decide +kernel⟩
theorem mX1_fault {G : gG} (s0 : St) {this : Nat} {vE : Int32} (h : sX1_fault s0 this = some vE) : Mt G YX1_fault yX1_fault [rV (some this)] s0 (some (iV vE)) s0 := by
  refine go_start (ls0 := [(0, rV (some this))]) (by decide +kernel) rfl (fun h => by cases h) (Nat.le_of_ble_eq_true rfl) rfl ?_
  revert h
  unfold sX1_fault
  refine im (go_aload_n (pc := 0) (Y := YX1_fault) 0 dX1_fault_0 rfl rfl) ?_
  refine flp (go_gI (pc := 1) (Y := YX1_fault) fF1 (by decide) q198 (Or.inl rfl) dX1_fault_1) (fun v1 => ?_)
  refine e1 (fun q0 => ?_)
  subst q0
  exact go_iret (pc := 4) (Y := YX1_fault) rfl dX1_fault_4
abbrev YX1_where : mY := (RX1, cX1_where, 1, (Option.some .int), 0, 0, false)
theorem YOK_X1_where : YOK yX1_where 0 := ⟨⟨by decide +kernel, by decide +kernel⟩, by decide +kernel⟩
theorem mX1_where {G : gG} (s0 : St) {this : Nat} {vE : Int32} (h : sX1_where s0 this = some vE) : Mt G YX1_where yX1_where [rV (some this)] s0 (some (iV vE)) s0 := by
  refine go_start (ls0 := [(0, rV (some this))]) (by decide +kernel) rfl (fun h => by cases h) (Nat.le_of_ble_eq_true rfl) rfl ?_
  revert h
  unfold sX1_where
  refine im (go_aload_n (pc := 0) (Y := YX1_where) 0 dX1_where_0 rfl rfl) ?_
  refine flp (go_gI (pc := 1) (Y := YX1_where) fF2 (by decide) q199 (Or.inl rfl) dX1_where_1) (fun v1 => ?_)
  refine e1 (fun q0 => ?_)
  subst q0
  exact go_iret (pc := 4) (Y := YX1_where) rfl dX1_where_4
abbrev YX1_people : mY := (RX1, cX1_people, 1, (Option.some .int), 1, 20, false)
theorem YOK_X1_people : YOK yX1_people 0 := ⟨⟨by decide +kernel, by decide +kernel⟩, by decide +kernel⟩
theorem mX1_people {G : gG} (s0 : St) {this : Nat} {vE : Int32} (h : sX1_people s0 this = some vE) : Mt G YX1_people yX1_people [rV (some this)] s0 (some (iV vE)) s0 := by
  refine go_start (ls0 := [(0, rV (some this))]) (by decide +kernel) rfl (fun h => by cases h) (Nat.le_of_ble_eq_true rfl) rfl ?_
  revert h
  unfold sX1_people
  refine im (go_aload_n (pc := 0) (Y := YX1_people) 0 dX1_people_0 rfl rfl) ?_
  refine flp (go_gR (pc := 1) (Y := YX1_people) fF1001 (by decide) q201 (Or.inl rfl) dX1_people_1) (fun v1 => ?_)
  refine flp (go_gR (pc := 4) (Y := YX1_people) fF1025 (by decide) q335 (Or.inl rfl) dX1_people_4) (fun v2 => ?_)
  refine ivg (fun w3 r4 k5 => ?_)
  refine bpg (fun v6 he7 => ?_)
  refine im (go_callV (pc := 7) (Y := YX1_people) (Yc := YJ2_size) (y := yJ2_size) (n := 0) (c0 := 1) (q := (RJ2, TJ2, 3)) w3 [] [] (by rw [r4]; rfl) rfl k5 (mJ2_size s0 he7) YOK_J2_size rfl q733 q132 q731 q732 q1098 (Nat.le_of_ble_eq_true rfl) (Nat.le_of_ble_eq_true rfl) (Nat.le_of_ble_eq_true rfl) dX1_people_7 (st2 := [iV v6]) rfl) ?_
  clear he7
  refine e1 (fun q0 => ?_)
  subst q0
  exact go_iret (pc := 10) (Y := YX1_people) rfl dX1_people_10
abbrev YX1_isPerson : mY := (RX1, cX1_isPerson, 2, (Option.some .boolean), 2, 40, false)
theorem YOK_X1_isPerson : YOK yX1_isPerson 1 := ⟨⟨by decide +kernel, by decide +kernel⟩, by decide +kernel⟩
theorem mX1_isPerson {G : gG} (s0 : St) {this : Nat} {p0 : Int32} {vE : Int32} (h : sX1_isPerson s0 this p0 = some vE) : Mt G YX1_isPerson yX1_isPerson [rV (some this), iV p0] s0 (some (iV vE)) s0 := by
  refine go_start (ls0 := [(0, rV (some this)), (1, iV p0)]) (by decide +kernel) rfl (fun h => by cases h) (Nat.le_of_ble_eq_true rfl) rfl ?_
  revert h
  unfold sX1_isPerson
  refine im (go_aload_n (pc := 0) (Y := YX1_isPerson) 0 dX1_isPerson_0 rfl rfl) ?_
  refine flp (go_gR (pc := 1) (Y := YX1_isPerson) fF1001 (by decide) q201 (Or.inl rfl) dX1_isPerson_1) (fun v1 => ?_)
  refine flp2 (go_ifnull (pc := 4) (Y := YX1_isPerson) 25 dX1_isPerson_4 (by decide)) ?_ ?_
  · refine im (go_iconst (pc := 25) (Y := YX1_isPerson) (v := 0) dX1_isPerson_25 rfl) ?_
    refine e1 (fun q0 => ?_)
    subst q0
    exact go_zret (pc := 26) (Y := YX1_isPerson) rfl rfl dX1_isPerson_26
  · refine im (go_iload_n (pc := 7) (Y := YX1_isPerson) 1 dX1_isPerson_7 rfl rfl) ?_
    refine im (go_iconst (pc := 8) (Y := YX1_isPerson) (v := 0) dX1_isPerson_8 rfl) ?_
    refine im (go_aload_n (pc := 9) (Y := YX1_isPerson) 0 dX1_isPerson_9 rfl rfl) ?_
    refine kdg (fun k2 => ?_)
    refine bpg (fun v3 he4 => ?_)
    refine im (go_callV (pc := 10) (Y := YX1_isPerson) (Yc := YX1_people) (y := yX1_people) (n := 0) (c0 := 0) (q := (RX1, TX1, 25)) this [] [iV 0, iV p0] rfl rfl k2 (mX1_people s0 he4) YOK_X1_people rfl q1122 q129 q1121 qs31 q1119 (Nat.le_of_ble_eq_true rfl) (Nat.le_of_ble_eq_true rfl) (Nat.le_of_ble_eq_true rfl) dX1_isPerson_10 (st2 := [iV v3, iV 0, iV p0]) rfl) ?_
    clear he4
    refine im (go_iconst (pc := 13) (Y := YX1_isPerson) (v := 1) dX1_isPerson_13 rfl) ?_
    refine im (go_isub (pc := 14) (Y := YX1_isPerson) dX1_isPerson_14) ?_
    refine bpg (fun v5 he6 => ?_)
    refine im (go_callS (pc := 15) (Y := YX1_isPerson) (Yc := YX1_in) (y := yX1_in) (n := 3) [iV p0, iV 0, iV (v3 - 1)] [] rfl (mX1_in s0 he6) YOK_X1_in rfl q284 q129 q283 q282 (Nat.le_of_ble_eq_true rfl) (Nat.le_of_ble_eq_true rfl) (Nat.le_of_ble_eq_true rfl) dX1_isPerson_15 (st2 := [iV v5]) rfl) ?_
    clear he6
    refine flp2 (go_if_eq (pc := 18) (Y := YX1_isPerson) 25 dX1_isPerson_18 (by decide)) ?_ ?_
    · refine im (go_iconst (pc := 25) (Y := YX1_isPerson) (v := 0) dX1_isPerson_25 rfl) ?_
      refine e1 (fun q0 => ?_)
      subst q0
      exact go_zret (pc := 26) (Y := YX1_isPerson) rfl rfl dX1_isPerson_26
    · refine im (go_iconst (pc := 21) (Y := YX1_isPerson) (v := 1) dX1_isPerson_21 rfl) ?_
      refine im (go_goto (pc := 22) (Y := YX1_isPerson) 26 dX1_isPerson_22 (by decide)) ?_
      refine e1 (fun q0 => ?_)
      subst q0
      exact go_zret (pc := 26) (Y := YX1_isPerson) rfl rfl dX1_isPerson_26
abbrev YX1_quarrels : mY := (RX1, cX1_quarrels, 1, (Option.some .int), 1, 20, false)
theorem YOK_X1_quarrels : YOK yX1_quarrels 0 := ⟨⟨by decide +kernel, by decide +kernel⟩, by decide +kernel⟩
theorem mX1_quarrels {G : gG} (s0 : St) {this : Nat} {vE : Int32} (h : sX1_quarrels s0 this = some vE) : Mt G YX1_quarrels yX1_quarrels [rV (some this)] s0 (some (iV vE)) s0 := by
  refine go_start (ls0 := [(0, rV (some this))]) (by decide +kernel) rfl (fun h => by cases h) (Nat.le_of_ble_eq_true rfl) rfl ?_
  revert h
  unfold sX1_quarrels
  refine im (go_aload_n (pc := 0) (Y := YX1_quarrels) 0 dX1_quarrels_0 rfl rfl) ?_
  refine flp (go_gR (pc := 1) (Y := YX1_quarrels) fF1001 (by decide) q201 (Or.inl rfl) dX1_quarrels_1) (fun v1 => ?_)
  refine flp (go_gR (pc := 4) (Y := YX1_quarrels) fF1026 (by decide) q338 (Or.inl rfl) dX1_quarrels_4) (fun v2 => ?_)
  refine ivg (fun w3 r4 k5 => ?_)
  refine bpg (fun v6 he7 => ?_)
  refine im (go_callV (pc := 7) (Y := YX1_quarrels) (Yc := YJ2_size) (y := yJ2_size) (n := 0) (c0 := 1) (q := (RJ2, TJ2, 3)) w3 [] [] (by rw [r4]; rfl) rfl k5 (mJ2_size s0 he7) YOK_J2_size rfl q733 q132 q731 q732 q1098 (Nat.le_of_ble_eq_true rfl) (Nat.le_of_ble_eq_true rfl) (Nat.le_of_ble_eq_true rfl) dX1_quarrels_7 (st2 := [iV v6]) rfl) ?_
  clear he7
  refine e1 (fun q0 => ?_)
  subst q0
  exact go_iret (pc := 10) (Y := YX1_quarrels) rfl dX1_quarrels_10
abbrev YX1_quarrelsOf : mY := (RX1, cX1_quarrelsOf, 4, (Option.some .int), 4, 85, false)
theorem YOK_X1_quarrelsOf : YOK yX1_quarrelsOf 1 := ⟨⟨by decide +kernel, by decide +kernel⟩, by decide +kernel⟩
theorem sX1_quarrelsOf_L4_go {G : gG} {s0 sE : St} {rE : Option V3} (s1 : St) (this : Nat) (i1 : Int32) : ∀ (n : Nat) (v2 : Int32) (v3 : Int32) (v4 : Int32), sX1_quarrelsOf_L4 s1 this i1 n v2 v3 = some v4 → Go G YX1_quarrelsOf s0 sE rE 58 [(2, iV v4)] [] s1 → Go G YX1_quarrelsOf s0 sE rE 4 [(0, rV (some this)), (1, iV i1), (2, iV v2), (3, iV v3)] [] s1 := by
  intro n
  induction n with
  | zero => intro v2 v3 v4 h hx; rw [sX1_quarrelsOf_L4] at h; cases h
  | succ n ih =>
    intro v2 v3 v4 h hx
    revert h
    rw [sX1_quarrelsOf_L4]
    refine im (go_iload_n (pc := 4) (Y := YX1_quarrelsOf) 3 dX1_quarrelsOf_4 rfl rfl) ?_
    refine im (go_aload_n (pc := 5) (Y := YX1_quarrelsOf) 0 dX1_quarrelsOf_5 rfl rfl) ?_
    refine kdg (fun k5 => ?_)
    refine bpg (fun v6 he7 => ?_)
    refine im (go_callV (pc := 6) (Y := YX1_quarrelsOf) (Yc := YX1_quarrels) (y := yX1_quarrels) (n := 0) (c0 := 0) (q := (RX1, TX1, 25)) this [] [iV v3] rfl rfl k5 (mX1_quarrels s1 he7) YOK_X1_quarrels rfl q1158 q129 q1157 qs33 q1155 (Nat.le_of_ble_eq_true rfl) (Nat.le_of_ble_eq_true rfl) (Nat.le_of_ble_eq_true rfl) dX1_quarrelsOf_6 (st2 := [iV v6, iV v3]) rfl) ?_
    clear he7
    refine flp2 (go_icmp_ge (pc := 9) (Y := YX1_quarrelsOf) 58 dX1_quarrelsOf_9 (by decide)) ?_ ?_
    · refine e1 (fun q0 => ?_)
      subst q0
      exact go_sub [2] rfl hx
    · refine im (go_iload_n (pc := 12) (Y := YX1_quarrelsOf) 2 dX1_quarrelsOf_12 rfl rfl) ?_
      refine im (go_aload_n (pc := 13) (Y := YX1_quarrelsOf) 0 dX1_quarrelsOf_13 rfl rfl) ?_
      refine flp (go_gR (pc := 14) (Y := YX1_quarrelsOf) fF1001 (by decide) q201 (Or.inl rfl) dX1_quarrelsOf_14) (fun v8 => ?_)
      refine im (go_iload_n (pc := 17) (Y := YX1_quarrelsOf) 3 dX1_quarrelsOf_17 rfl rfl) ?_
      refine ivg (fun w9 r10 k11 => ?_)
      refine bpg (fun v12 he13 => ?_)
      refine im (go_callV (pc := 18) (Y := YX1_quarrelsOf) (Yc := YX5_quarrel) (y := yX5_quarrel) (n := 1) (c0 := 5) (q := (RX5, TX5, 10)) w9 [iV v3] [iV v2] (by rw [r10]; rfl) rfl k11 (mX5_quarrel s1 he13) YOK_X5_quarrel rfl q1043 q136 q1041 q1042 q1159 (Nat.le_of_ble_eq_true rfl) (Nat.le_of_ble_eq_true rfl) (Nat.le_of_ble_eq_true rfl) dX1_quarrelsOf_18 (st2 := [rV v12, iV v2]) rfl) ?_
      clear he13
      refine flp (go_gI (pc := 21) (Y := YX1_quarrelsOf) fF71 (by decide) q999 (Or.inl rfl) dX1_quarrelsOf_21) (fun v14 => ?_)
      refine im (go_iload_n (pc := 24) (Y := YX1_quarrelsOf) 1 dX1_quarrelsOf_24 rfl rfl) ?_
      refine bpg (fun v15 he23 h24 => ?_)
      have hj50 : Go G YX1_quarrelsOf s0 sE rE 50 [(0, rV (some this)), (1, iV i1), (3, iV v3)] [iV v15, iV v2] s1 := by
        clear he23
        revert h24
        refine im (go_ior (pc := 50) (Y := YX1_quarrelsOf) dX1_quarrelsOf_50) ?_
        refine im (go_istore_n (pc := 51) (Y := YX1_quarrelsOf) (ls2 := [(2, iV (v2 ||| v15)), (0, rV (some this)), (1, iV i1), (3, iV v3)]) dX1_quarrelsOf_51 rfl (Nat.le_of_ble_eq_true rfl) rfl) ?_
        refine im (go_iinc (pc := 52) (Y := YX1_quarrelsOf) 3 (v := (v3 + 1)) (ls2 := [(3, iV (v3 + 1)), (2, iV (v2 ||| v15)), (0, rV (some this)), (1, iV i1)]) dX1_quarrelsOf_52 rfl rfl (Nat.le_of_ble_eq_true rfl) rfl) ?_
        refine im (go_goto (pc := 55) (Y := YX1_quarrelsOf) 4 dX1_quarrelsOf_55 (by decide)) ?_
        exact fun hq => go_sub [2, 3, 1, 0] rfl (ih _ _ _ hq hx)
      clear h24
      revert he23
      refine flp2 (go_icmp_eq (pc := 25) (Y := YX1_quarrelsOf) 43 dX1_quarrelsOf_25 (by decide)) ?_ ?_
      · refine im (go_iconst (pc := 43) (Y := YX1_quarrelsOf) (v := 1) dX1_quarrelsOf_43 rfl) ?_
        refine im (go_iload_n (pc := 44) (Y := YX1_quarrelsOf) 3 dX1_quarrelsOf_44 rfl rfl) ?_
        refine im (go_ishl (pc := 45) (Y := YX1_quarrelsOf) dX1_quarrelsOf_45) ?_
        refine im (go_goto (pc := 46) (Y := YX1_quarrelsOf) 50 dX1_quarrelsOf_46 (by decide)) ?_
        refine e1 (fun q0 => ?_)
        subst q0
        exact go_sub [0, 1, 3] rfl hj50
      · refine im (go_aload_n (pc := 28) (Y := YX1_quarrelsOf) 0 dX1_quarrelsOf_28 rfl rfl) ?_
        refine flp (go_gR (pc := 29) (Y := YX1_quarrelsOf) fF1001 (by decide) q201 (Or.inl rfl) dX1_quarrelsOf_29) (fun v16 => ?_)
        refine im (go_iload_n (pc := 32) (Y := YX1_quarrelsOf) 3 dX1_quarrelsOf_32 rfl rfl) ?_
        refine ivg (fun w17 r18 k19 => ?_)
        refine bpg (fun v20 he21 => ?_)
        refine im (go_callV (pc := 33) (Y := YX1_quarrelsOf) (Yc := YX5_quarrel) (y := yX5_quarrel) (n := 1) (c0 := 5) (q := (RX5, TX5, 10)) w17 [iV v3] [iV v2] (by rw [r18]; rfl) rfl k19 (mX5_quarrel s1 he21) YOK_X5_quarrel rfl q1043 q136 q1041 q1042 q1159 (Nat.le_of_ble_eq_true rfl) (Nat.le_of_ble_eq_true rfl) (Nat.le_of_ble_eq_true rfl) dX1_quarrelsOf_33 (st2 := [rV v20, iV v2]) rfl) ?_
        clear he21
        refine flp (go_gI (pc := 36) (Y := YX1_quarrelsOf) fF72 (by decide) q1001 (Or.inl rfl) dX1_quarrelsOf_36) (fun v22 => ?_)
        refine im (go_iload_n (pc := 39) (Y := YX1_quarrelsOf) 1 dX1_quarrelsOf_39 rfl rfl) ?_
        refine flp2 (go_icmp_ne (pc := 40) (Y := YX1_quarrelsOf) 49 dX1_quarrelsOf_40 (by decide)) ?_ ?_
        · refine im (go_iconst (pc := 43) (Y := YX1_quarrelsOf) (v := 1) dX1_quarrelsOf_43 rfl) ?_
          refine im (go_iload_n (pc := 44) (Y := YX1_quarrelsOf) 3 dX1_quarrelsOf_44 rfl rfl) ?_
          refine im (go_ishl (pc := 45) (Y := YX1_quarrelsOf) dX1_quarrelsOf_45) ?_
          refine im (go_goto (pc := 46) (Y := YX1_quarrelsOf) 50 dX1_quarrelsOf_46 (by decide)) ?_
          refine e1 (fun q0 => ?_)
          subst q0
          exact go_sub [0, 1, 3] rfl hj50
        · refine im (go_iconst (pc := 49) (Y := YX1_quarrelsOf) (v := 0) dX1_quarrelsOf_49 rfl) ?_
          refine e1 (fun q0 => ?_)
          subst q0
          exact go_sub [0, 1, 3] rfl hj50
theorem mX1_quarrelsOf {G : gG} (s0 : St) {this : Nat} {p0 : Int32} {vE : Int32} (h : sX1_quarrelsOf s0 this p0 = some vE) : Mt G YX1_quarrelsOf yX1_quarrelsOf [rV (some this), iV p0] s0 (some (iV vE)) s0 := by
  refine go_start (ls0 := [(0, rV (some this)), (1, iV p0)]) (by decide +kernel) rfl (fun h => by cases h) (Nat.le_of_ble_eq_true rfl) rfl ?_
  revert h
  unfold sX1_quarrelsOf
  refine im (go_iconst (pc := 0) (Y := YX1_quarrelsOf) (v := 0) dX1_quarrelsOf_0 rfl) ?_
  refine im (go_istore_n (pc := 1) (Y := YX1_quarrelsOf) (ls2 := [(2, iV 0), (0, rV (some this)), (1, iV p0)]) dX1_quarrelsOf_1 rfl (Nat.le_of_ble_eq_true rfl) rfl) ?_
  refine im (go_iconst (pc := 2) (Y := YX1_quarrelsOf) (v := 0) dX1_quarrelsOf_2 rfl) ?_
  refine im (go_istore_n (pc := 3) (Y := YX1_quarrelsOf) (ls2 := [(3, iV 0), (2, iV 0), (0, rV (some this)), (1, iV p0)]) dX1_quarrelsOf_3 rfl (Nat.le_of_ble_eq_true rfl) rfl) ?_
  refine bpg (fun v25 he26 h27 => ?_)
  refine go_sub [2, 3, 1, 0] rfl (sX1_quarrelsOf_L4_go s0 this p0 FU _ _ _ he26 ?_)
  clear he26
  revert h27
  refine im (go_iload_n (pc := 58) (Y := YX1_quarrelsOf) 0 dX1_quarrelsOf_58 rfl rfl) ?_
  refine e1 (fun q0 => ?_)
  subst q0
  exact go_iret (pc := 59) (Y := YX1_quarrelsOf) rfl dX1_quarrelsOf_59
abbrev YX1_person : mY := (RX1, cX1_person, 4, (Option.some .int), 5, 108, false)
theorem YOK_X1_person : YOK yX1_person 2 := ⟨⟨by decide +kernel, by decide +kernel⟩, by decide +kernel⟩
theorem mX1_person {G : gG} (s0 : St) {this : Nat} {p0 : Int32} {p1 : Int32} {sE : St} {vE : Int32} (h : sX1_person s0 this p0 p1 = some (sE, vE)) : Mt G YX1_person yX1_person [rV (some this), iV p0, iV p1] s0 (some (iV vE)) sE := by
  refine go_start (ls0 := [(0, rV (some this)), (1, iV p0), (2, iV p1)]) (by decide +kernel) rfl (fun h => by cases h) (Nat.le_of_ble_eq_true rfl) rfl ?_
  revert h
  unfold sX1_person
  refine im (go_aload_n (pc := 0) (Y := YX1_person) 0 dX1_person_0 rfl rfl) ?_
  refine im (go_iload_n (pc := 1) (Y := YX1_person) 1 dX1_person_1 rfl rfl) ?_
  refine kdg (fun k1 => ?_)
  refine bpg (fun v2 he3 => ?_)
  refine im (go_callV (pc := 2) (Y := YX1_person) (Yc := YX1_isPerson) (y := yX1_isPerson) (n := 1) (c0 := 0) (q := (RX1, TX1, 25)) this [iV p0] [] rfl rfl k1 (mX1_isPerson s0 he3) YOK_X1_isPerson rfl q1118 q129 q1117 qs30 q1115 (Nat.le_of_ble_eq_true rfl) (Nat.le_of_ble_eq_true rfl) (Nat.le_of_ble_eq_true rfl) dX1_person_2 (st2 := [iV v2]) rfl) ?_
  clear he3
  refine flp2 (go_if_eq (pc := 5) (Y := YX1_person) 17 dX1_person_5 (by decide)) ?_ ?_
  · refine im (go_aload_n (pc := 17) (Y := YX1_person) 0 dX1_person_17 rfl rfl) ?_
    refine im (go_iconst (pc := 18) (Y := YX1_person) (v := 1) dX1_person_18 rfl) ?_
    refine kdg (fun k4 => ?_)
    refine bdg (fun s5 v6 he7 => ?_)
    refine im (go_callV (pc := 19) (Y := YX1_person) (Yc := YX1_refused) (y := yX1_refused) (n := 1) (c0 := 0) (q := (RX1, TX1, 25)) this [iV 1] [] rfl rfl k4 (mX1_refused s0 he7) YOK_X1_refused rfl q288 q129 q287 qs0 q285 (Nat.le_of_ble_eq_true rfl) (Nat.le_of_ble_eq_true rfl) (Nat.le_of_ble_eq_true rfl) dX1_person_19 (st2 := [iV v6]) rfl) ?_
    clear he7
    refine e2 (fun q0 q1 => ?_)
    subst q0
    subst q1
    exact go_iret (pc := 22) (Y := YX1_person) rfl dX1_person_22
  · refine im (go_iload_n (pc := 8) (Y := YX1_person) 2 dX1_person_8 rfl rfl) ?_
    refine im (go_iconst (pc := 9) (Y := YX1_person) (v := 0) dX1_person_9 rfl) ?_
    refine im (go_iconst (pc := 10) (Y := YX1_person) (v := 5) dX1_person_10 rfl) ?_
    refine bpg (fun v8 he9 => ?_)
    refine im (go_callS (pc := 11) (Y := YX1_person) (Yc := YX1_in) (y := yX1_in) (n := 3) [iV p1, iV 0, iV 5] [] rfl (mX1_in s0 he9) YOK_X1_in rfl q284 q129 q283 q282 (Nat.le_of_ble_eq_true rfl) (Nat.le_of_ble_eq_true rfl) (Nat.le_of_ble_eq_true rfl) dX1_person_11 (st2 := [iV v8]) rfl) ?_
    clear he9
    refine flp2 (go_if_ne (pc := 14) (Y := YX1_person) 23 dX1_person_14 (by decide)) ?_ ?_
    · refine im (go_aload_n (pc := 17) (Y := YX1_person) 0 dX1_person_17 rfl rfl) ?_
      refine im (go_iconst (pc := 18) (Y := YX1_person) (v := 1) dX1_person_18 rfl) ?_
      refine kdg (fun k10 => ?_)
      refine bdg (fun s11 v12 he13 => ?_)
      refine im (go_callV (pc := 19) (Y := YX1_person) (Yc := YX1_refused) (y := yX1_refused) (n := 1) (c0 := 0) (q := (RX1, TX1, 25)) this [iV 1] [] rfl rfl k10 (mX1_refused s0 he13) YOK_X1_refused rfl q288 q129 q287 qs0 q285 (Nat.le_of_ble_eq_true rfl) (Nat.le_of_ble_eq_true rfl) (Nat.le_of_ble_eq_true rfl) dX1_person_19 (st2 := [iV v12]) rfl) ?_
      clear he13
      refine e2 (fun q0 q1 => ?_)
      subst q0
      subst q1
      exact go_iret (pc := 22) (Y := YX1_person) rfl dX1_person_22
    · refine im (go_aload_n (pc := 23) (Y := YX1_person) 0 dX1_person_23 rfl rfl) ?_
      refine flp (go_gR (pc := 24) (Y := YX1_person) fF1001 (by decide) q201 (Or.inl rfl) dX1_person_24) (fun v14 => ?_)
      refine im (go_iload_n (pc := 27) (Y := YX1_person) 1 dX1_person_27 rfl rfl) ?_
      refine ivg (fun w15 r16 k17 => ?_)
      refine bpg (fun v18 he19 => ?_)
      refine im (go_callV (pc := 28) (Y := YX1_person) (Yc := YX5_person) (y := yX5_person) (n := 1) (c0 := 5) (q := (RX5, TX5, 10)) w15 [iV p0] [] (by rw [r16]; rfl) rfl k17 (mX5_person s0 he19) YOK_X5_person rfl q986 q136 q984 q985 q1123 (Nat.le_of_ble_eq_true rfl) (Nat.le_of_ble_eq_true rfl) (Nat.le_of_ble_eq_true rfl) dX1_person_28 (st2 := [rV v18]) rfl) ?_
      clear he19
      refine im (go_astore_n (pc := 31) (Y := YX1_person) (ls2 := [(3, rV v18), (0, rV (some this)), (1, iV p0), (2, iV p1)]) dX1_person_31 rfl (Nat.le_of_ble_eq_true rfl) rfl) ?_
      refine im (go_iload_n (pc := 32) (Y := YX1_person) 3 dX1_person_32 rfl rfl) ?_
      refine ifg (fun c28 => ?_) (fun n29 => ?_)
      · refine im (go_tIn (pc := 33) (Y := YX1_person) 68 dX1_person_33 (by rw [c28]; decide) (by rw [c28]; decide) (off := 35) (by rw [c28]; rfl) (by decide)) ?_
        clear c28
        refine im (go_aload_n (pc := 68) (Y := YX1_person) 1 dX1_person_68 rfl rfl) ?_
        refine im (go_aload_n (pc := 69) (Y := YX1_person) 0 dX1_person_69 rfl rfl) ?_
        refine xNg (fun w22 r23 => ?_)
        refine bpg (fun v20 he21 => ?_)
        refine im (dv_kind_go (pc := 70) (Y := YX1_person) [rV (some this)] (by rw [r23]; rfl) he21 q1124 (Nat.le_of_ble_eq_true rfl) (Nat.le_of_ble_eq_true rfl) (Nat.le_of_ble_eq_true rfl) dX1_person_70 (st2 := [iV v20, rV (some this)]) rfl) ?_
        clear he21
        refine kdg (fun k24 => ?_)
        refine bdg (fun s25 v26 he27 => ?_)
        refine im (go_callV (pc := 73) (Y := YX1_person) (Yc := YX1_well) (y := yX1_well) (n := 1) (c0 := 0) (q := (RX1, TX1, 25)) this [iV v20] [] rfl rfl k24 (mX1_well s0 he27) YOK_X1_well rfl q1102 q129 q1101 qs29 q1099 (Nat.le_of_ble_eq_true rfl) (Nat.le_of_ble_eq_true rfl) (Nat.le_of_ble_eq_true rfl) dX1_person_73 (st2 := [iV v26]) rfl) ?_
        clear he27
        refine e2 (fun q0 q1 => ?_)
        subst q0
        subst q1
        exact go_iret (pc := 76) (Y := YX1_person) rfl dX1_person_76
      refine ifg (fun c35 => ?_) (fun n36 => ?_)
      · refine im (go_tIn 77 dX1_person_33 (by rw [c35]; decide) (by rw [c35]; decide) (off := 44) (by rw [c35]; rfl) (by decide)) ?_
        clear c35
        refine im (go_aload_n (pc := 77) (Y := YX1_person) 1 dX1_person_77 rfl rfl) ?_
        refine im (go_aload_n (pc := 78) (Y := YX1_person) 0 dX1_person_78 rfl rfl) ?_
        refine flp (go_gI (pc := 79) (Y := YX1_person) fF66 (by decide) q902 (Or.inl rfl) dX1_person_79) (fun v30 => ?_)
        refine kdg (fun k31 => ?_)
        refine bdg (fun s32 v33 he34 => ?_)
        refine im (go_callV (pc := 82) (Y := YX1_person) (Yc := YX1_well) (y := yX1_well) (n := 1) (c0 := 0) (q := (RX1, TX1, 25)) this [iV v30] [] rfl rfl k31 (mX1_well s0 he34) YOK_X1_well rfl q1102 q129 q1101 qs29 q1099 (Nat.le_of_ble_eq_true rfl) (Nat.le_of_ble_eq_true rfl) (Nat.le_of_ble_eq_true rfl) dX1_person_82 (st2 := [iV v33]) rfl) ?_
        clear he34
        refine e2 (fun q0 q1 => ?_)
        subst q0
        subst q1
        exact go_iret (pc := 85) (Y := YX1_person) rfl dX1_person_85
      refine ifg (fun c45 => ?_) (fun n46 => ?_)
      · refine im (go_tIn 86 dX1_person_33 (by rw [c45]; decide) (by rw [c45]; decide) (off := 53) (by rw [c45]; rfl) (by decide)) ?_
        clear c45
        refine im (go_aload_n (pc := 86) (Y := YX1_person) 1 dX1_person_86 rfl rfl) ?_
        refine im (go_aload_n (pc := 87) (Y := YX1_person) 0 dX1_person_87 rfl rfl) ?_
        refine xNg (fun w39 r40 => ?_)
        refine bpg (fun v37 he38 => ?_)
        refine im (dv_eyes_go (pc := 88) (Y := YX1_person) [rV (some this)] (by rw [r40]; rfl) he38 q1138 (Nat.le_of_ble_eq_true rfl) (Nat.le_of_ble_eq_true rfl) (Nat.le_of_ble_eq_true rfl) dX1_person_88 (st2 := [iV v37, rV (some this)]) rfl) ?_
        clear he38
        refine kdg (fun k41 => ?_)
        refine bdg (fun s42 v43 he44 => ?_)
        refine im (go_callV (pc := 91) (Y := YX1_person) (Yc := YX1_well) (y := yX1_well) (n := 1) (c0 := 0) (q := (RX1, TX1, 25)) this [iV v37] [] rfl rfl k41 (mX1_well s0 he44) YOK_X1_well rfl q1102 q129 q1101 qs29 q1099 (Nat.le_of_ble_eq_true rfl) (Nat.le_of_ble_eq_true rfl) (Nat.le_of_ble_eq_true rfl) dX1_person_91 (st2 := [iV v43]) rfl) ?_
        clear he44
        refine e2 (fun q0 q1 => ?_)
        subst q0
        subst q1
        exact go_iret (pc := 94) (Y := YX1_person) rfl dX1_person_94
      refine ifg (fun c52 => ?_) (fun n53 => ?_)
      · refine im (go_tIn 95 dX1_person_33 (by rw [c52]; decide) (by rw [c52]; decide) (off := 62) (by rw [c52]; rfl) (by decide)) ?_
        clear c52
        refine im (go_aload_n (pc := 95) (Y := YX1_person) 1 dX1_person_95 rfl rfl) ?_
        refine im (go_aload_n (pc := 96) (Y := YX1_person) 0 dX1_person_96 rfl rfl) ?_
        refine flp (go_gI (pc := 97) (Y := YX1_person) fF69 (by decide) q909 (Or.inl rfl) dX1_person_97) (fun v47 => ?_)
        refine kdg (fun k48 => ?_)
        refine bdg (fun s49 v50 he51 => ?_)
        refine im (go_callV (pc := 100) (Y := YX1_person) (Yc := YX1_well) (y := yX1_well) (n := 1) (c0 := 0) (q := (RX1, TX1, 25)) this [iV v47] [] rfl rfl k48 (mX1_well s0 he51) YOK_X1_well rfl q1102 q129 q1101 qs29 q1099 (Nat.le_of_ble_eq_true rfl) (Nat.le_of_ble_eq_true rfl) (Nat.le_of_ble_eq_true rfl) dX1_person_100 (st2 := [iV v50]) rfl) ?_
        clear he51
        refine e2 (fun q0 q1 => ?_)
        subst q0
        subst q1
        exact go_iret (pc := 103) (Y := YX1_person) rfl dX1_person_103
      refine ifg (fun c61 => ?_) (fun n62 => ?_)
      · refine im (go_tIn 104 dX1_person_33 (by rw [c61]; decide) (by rw [c61]; decide) (off := 71) (by rw [c61]; rfl) (by decide)) ?_
        clear c61
        refine im (go_aload_n (pc := 104) (Y := YX1_person) 1 dX1_person_104 rfl rfl) ?_
        refine im (go_aload_n (pc := 105) (Y := YX1_person) 1 dX1_person_105 rfl rfl) ?_
        refine flp (go_gR (pc := 106) (Y := YX1_person) fF1002 (by decide) q202 (Or.inl rfl) dX1_person_106) (fun v54 => ?_)
        refine flp (go_gR (pc := 109) (Y := YX1_person) fF1036 (by decide) q1061 (Or.inl rfl) dX1_person_109) (fun v55 => ?_)
        refine im (go_iload_n (pc := 112) (Y := YX1_person) 2 dX1_person_112 rfl rfl) ?_
        refine flp (go_lI2 (pc := 113) (Y := YX1_person) dX1_person_113) (fun v56 => ?_)
        refine kdg (fun k57 => ?_)
        refine bdg (fun s58 v59 he60 => ?_)
        refine im (go_callV (pc := 114) (Y := YX1_person) (Yc := YX1_well) (y := yX1_well) (n := 1) (c0 := 0) (q := (RX1, TX1, 25)) this [iV v56] [] rfl rfl k57 (mX1_well s0 he60) YOK_X1_well rfl q1102 q129 q1101 qs29 q1099 (Nat.le_of_ble_eq_true rfl) (Nat.le_of_ble_eq_true rfl) (Nat.le_of_ble_eq_true rfl) dX1_person_114 (st2 := [iV v59]) rfl) ?_
        clear he60
        refine e2 (fun q0 q1 => ?_)
        subst q0
        subst q1
        exact go_iret (pc := 117) (Y := YX1_person) rfl dX1_person_117
      have ht : ∀ i : Nat, i < 5 → ¬ p1 = Int32.ofInt (0 + i) := by
        intro i hi
        rcases (show i = 0 ∨ i = 1 ∨ i = 2 ∨ i = 3 ∨ i = 4 by omega) with rfl | rfl | rfl | rfl | rfl
        · exact n29
        · exact n36
        · exact n46
        · exact n53
        · exact n62
      refine im (go_tOut 118 5 dX1_person_33 (by decide) ht (by decide)) ?_
      clear ht
      refine im (go_aload_n (pc := 118) (Y := YX1_person) 1 dX1_person_118 rfl rfl) ?_
      refine im (go_aload_n (pc := 119) (Y := YX1_person) 1 dX1_person_119 rfl rfl) ?_
      refine im (go_iload_n (pc := 120) (Y := YX1_person) 2 dX1_person_120 rfl rfl) ?_
      refine kdg (fun k63 => ?_)
      refine bpg (fun v64 he65 => ?_)
      refine im (go_callV (pc := 121) (Y := YX1_person) (Yc := YX1_quarrelsOf) (y := yX1_quarrelsOf) (n := 1) (c0 := 0) (q := (RX1, TX1, 25)) this [iV p0] [rV (some this)] rfl rfl k63 (mX1_quarrelsOf s0 he65) YOK_X1_quarrelsOf rfl q1154 q129 q1153 qs32 q1151 (Nat.le_of_ble_eq_true rfl) (Nat.le_of_ble_eq_true rfl) (Nat.le_of_ble_eq_true rfl) dX1_person_121 (st2 := [iV v64, rV (some this)]) rfl) ?_
      clear he65
      refine kdg (fun k66 => ?_)
      refine bdg (fun s67 v68 he69 => ?_)
      refine im (go_callV (pc := 124) (Y := YX1_person) (Yc := YX1_well) (y := yX1_well) (n := 1) (c0 := 0) (q := (RX1, TX1, 25)) this [iV v64] [] rfl rfl k66 (mX1_well s0 he69) YOK_X1_well rfl q1102 q129 q1101 qs29 q1099 (Nat.le_of_ble_eq_true rfl) (Nat.le_of_ble_eq_true rfl) (Nat.le_of_ble_eq_true rfl) dX1_person_124 (st2 := [iV v68]) rfl) ?_
      clear he69
      refine e2 (fun q0 q1 => ?_)
      subst q0
      subst q1
      exact go_iret (pc := 127) (Y := YX1_person) rfl dX1_person_127
abbrev YX1_sights : mY := (RX1, cX1_sights, 1, (Option.some .int), 1, 20, false)
theorem YOK_X1_sights : YOK yX1_sights 0 := ⟨⟨by decide +kernel, by decide +kernel⟩, by decide +kernel⟩
theorem mX1_sights {G : gG} (s0 : St) {this : Nat} {vE : Int32} (h : sX1_sights s0 this = some vE) : Mt G YX1_sights yX1_sights [rV (some this)] s0 (some (iV vE)) s0 := by
  refine go_start (ls0 := [(0, rV (some this))]) (by decide +kernel) rfl (fun h => by cases h) (Nat.le_of_ble_eq_true rfl) rfl ?_
  revert h
  unfold sX1_sights
  refine im (go_aload_n (pc := 0) (Y := YX1_sights) 0 dX1_sights_0 rfl rfl) ?_
  refine flp (go_gR (pc := 1) (Y := YX1_sights) fF1001 (by decide) q201 (Or.inl rfl) dX1_sights_1) (fun v1 => ?_)
  refine flp (go_gR (pc := 4) (Y := YX1_sights) fF1027 (by decide) q343 (Or.inl rfl) dX1_sights_4) (fun v2 => ?_)
  refine ivg (fun w3 r4 k5 => ?_)
  refine bpg (fun v6 he7 => ?_)
  refine im (go_callV (pc := 7) (Y := YX1_sights) (Yc := YJ2_size) (y := yJ2_size) (n := 0) (c0 := 1) (q := (RJ2, TJ2, 3)) w3 [] [] (by rw [r4]; rfl) rfl k5 (mJ2_size s0 he7) YOK_J2_size rfl q733 q132 q731 q732 q1098 (Nat.le_of_ble_eq_true rfl) (Nat.le_of_ble_eq_true rfl) (Nat.le_of_ble_eq_true rfl) dX1_sights_7 (st2 := [iV v6]) rfl) ?_
  clear he7
  refine e1 (fun q0 => ?_)
  subst q0
  exact go_iret (pc := 10) (Y := YX1_sights) rfl dX1_sights_10
abbrev YX1_isSight : mY := (RX1, cX1_isSight, 2, (Option.some .boolean), 2, 40, false)
theorem YOK_X1_isSight : YOK yX1_isSight 1 := ⟨⟨by decide +kernel, by decide +kernel⟩, by decide +kernel⟩
theorem mX1_isSight {G : gG} (s0 : St) {this : Nat} {p0 : Int32} {vE : Int32} (h : sX1_isSight s0 this p0 = some vE) : Mt G YX1_isSight yX1_isSight [rV (some this), iV p0] s0 (some (iV vE)) s0 := by
  refine go_start (ls0 := [(0, rV (some this)), (1, iV p0)]) (by decide +kernel) rfl (fun h => by cases h) (Nat.le_of_ble_eq_true rfl) rfl ?_
  revert h
  unfold sX1_isSight
  refine im (go_aload_n (pc := 0) (Y := YX1_isSight) 0 dX1_isSight_0 rfl rfl) ?_
  refine flp (go_gR (pc := 1) (Y := YX1_isSight) fF1001 (by decide) q201 (Or.inl rfl) dX1_isSight_1) (fun v1 => ?_)
  refine flp2 (go_ifnull (pc := 4) (Y := YX1_isSight) 25 dX1_isSight_4 (by decide)) ?_ ?_
  · refine im (go_iconst (pc := 25) (Y := YX1_isSight) (v := 0) dX1_isSight_25 rfl) ?_
    refine e1 (fun q0 => ?_)
    subst q0
    exact go_zret (pc := 26) (Y := YX1_isSight) rfl rfl dX1_isSight_26
  · refine im (go_iload_n (pc := 7) (Y := YX1_isSight) 1 dX1_isSight_7 rfl rfl) ?_
    refine im (go_iconst (pc := 8) (Y := YX1_isSight) (v := 0) dX1_isSight_8 rfl) ?_
    refine im (go_aload_n (pc := 9) (Y := YX1_isSight) 0 dX1_isSight_9 rfl rfl) ?_
    refine kdg (fun k2 => ?_)
    refine bpg (fun v3 he4 => ?_)
    refine im (go_callV (pc := 10) (Y := YX1_isSight) (Yc := YX1_sights) (y := yX1_sights) (n := 0) (c0 := 0) (q := (RX1, TX1, 25)) this [] [iV 0, iV p0] rfl rfl k2 (mX1_sights s0 he4) YOK_X1_sights rfl q1171 q129 q1170 qs35 q1168 (Nat.le_of_ble_eq_true rfl) (Nat.le_of_ble_eq_true rfl) (Nat.le_of_ble_eq_true rfl) dX1_isSight_10 (st2 := [iV v3, iV 0, iV p0]) rfl) ?_
    clear he4
    refine im (go_iconst (pc := 13) (Y := YX1_isSight) (v := 1) dX1_isSight_13 rfl) ?_
    refine im (go_isub (pc := 14) (Y := YX1_isSight) dX1_isSight_14) ?_
    refine bpg (fun v5 he6 => ?_)
    refine im (go_callS (pc := 15) (Y := YX1_isSight) (Yc := YX1_in) (y := yX1_in) (n := 3) [iV p0, iV 0, iV (v3 - 1)] [] rfl (mX1_in s0 he6) YOK_X1_in rfl q284 q129 q283 q282 (Nat.le_of_ble_eq_true rfl) (Nat.le_of_ble_eq_true rfl) (Nat.le_of_ble_eq_true rfl) dX1_isSight_15 (st2 := [iV v5]) rfl) ?_
    clear he6
    refine flp2 (go_if_eq (pc := 18) (Y := YX1_isSight) 25 dX1_isSight_18 (by decide)) ?_ ?_
    · refine im (go_iconst (pc := 25) (Y := YX1_isSight) (v := 0) dX1_isSight_25 rfl) ?_
      refine e1 (fun q0 => ?_)
      subst q0
      exact go_zret (pc := 26) (Y := YX1_isSight) rfl rfl dX1_isSight_26
    · refine im (go_iconst (pc := 21) (Y := YX1_isSight) (v := 1) dX1_isSight_21 rfl) ?_
      refine im (go_goto (pc := 22) (Y := YX1_isSight) 26 dX1_isSight_22 (by decide)) ?_
      refine e1 (fun q0 => ?_)
      subst q0
      exact go_zret (pc := 26) (Y := YX1_isSight) rfl rfl dX1_isSight_26
abbrev YX1_sight : mY := (RX1, cX1_sight, 4, (Option.some .int), 3, 64, false)
theorem YOK_X1_sight : YOK yX1_sight 2 := ⟨⟨by decide +kernel, by decide +kernel⟩, by decide +kernel⟩
theorem mX1_sight {G : gG} (s0 : St) {this : Nat} {p0 : Int32} {p1 : Int32} {sE : St} {vE : Int32} (h : sX1_sight s0 this p0 p1 = some (sE, vE)) : Mt G YX1_sight yX1_sight [rV (some this), iV p0, iV p1] s0 (some (iV vE)) sE := by
  refine go_start (ls0 := [(0, rV (some this)), (1, iV p0), (2, iV p1)]) (by decide +kernel) rfl (fun h => by cases h) (Nat.le_of_ble_eq_true rfl) rfl ?_
  revert h
  unfold sX1_sight
  refine im (go_aload_n (pc := 0) (Y := YX1_sight) 0 dX1_sight_0 rfl rfl) ?_
  refine im (go_iload_n (pc := 1) (Y := YX1_sight) 1 dX1_sight_1 rfl rfl) ?_
  refine kdg (fun k1 => ?_)
  refine bpg (fun v2 he3 => ?_)
  refine im (go_callV (pc := 2) (Y := YX1_sight) (Yc := YX1_isSight) (y := yX1_isSight) (n := 1) (c0 := 0) (q := (RX1, TX1, 25)) this [iV p0] [] rfl rfl k1 (mX1_isSight s0 he3) YOK_X1_isSight rfl q1167 q129 q1166 qs34 q1164 (Nat.le_of_ble_eq_true rfl) (Nat.le_of_ble_eq_true rfl) (Nat.le_of_ble_eq_true rfl) dX1_sight_2 (st2 := [iV v2]) rfl) ?_
  clear he3
  refine flp2 (go_if_eq (pc := 5) (Y := YX1_sight) 17 dX1_sight_5 (by decide)) ?_ ?_
  · refine im (go_aload_n (pc := 17) (Y := YX1_sight) 0 dX1_sight_17 rfl rfl) ?_
    refine im (go_iconst (pc := 18) (Y := YX1_sight) (v := 1) dX1_sight_18 rfl) ?_
    refine kdg (fun k4 => ?_)
    refine bdg (fun s5 v6 he7 => ?_)
    refine im (go_callV (pc := 19) (Y := YX1_sight) (Yc := YX1_refused) (y := yX1_refused) (n := 1) (c0 := 0) (q := (RX1, TX1, 25)) this [iV 1] [] rfl rfl k4 (mX1_refused s0 he7) YOK_X1_refused rfl q288 q129 q287 qs0 q285 (Nat.le_of_ble_eq_true rfl) (Nat.le_of_ble_eq_true rfl) (Nat.le_of_ble_eq_true rfl) dX1_sight_19 (st2 := [iV v6]) rfl) ?_
    clear he7
    refine e2 (fun q0 q1 => ?_)
    subst q0
    subst q1
    exact go_iret (pc := 22) (Y := YX1_sight) rfl dX1_sight_22
  · refine im (go_iload_n (pc := 8) (Y := YX1_sight) 2 dX1_sight_8 rfl rfl) ?_
    refine im (go_iconst (pc := 9) (Y := YX1_sight) (v := 0) dX1_sight_9 rfl) ?_
    refine im (go_iconst (pc := 10) (Y := YX1_sight) (v := 2) dX1_sight_10 rfl) ?_
    refine bpg (fun v8 he9 => ?_)
    refine im (go_callS (pc := 11) (Y := YX1_sight) (Yc := YX1_in) (y := yX1_in) (n := 3) [iV p1, iV 0, iV 2] [] rfl (mX1_in s0 he9) YOK_X1_in rfl q284 q129 q283 q282 (Nat.le_of_ble_eq_true rfl) (Nat.le_of_ble_eq_true rfl) (Nat.le_of_ble_eq_true rfl) dX1_sight_11 (st2 := [iV v8]) rfl) ?_
    clear he9
    refine flp2 (go_if_ne (pc := 14) (Y := YX1_sight) 23 dX1_sight_14 (by decide)) ?_ ?_
    · refine im (go_aload_n (pc := 17) (Y := YX1_sight) 0 dX1_sight_17 rfl rfl) ?_
      refine im (go_iconst (pc := 18) (Y := YX1_sight) (v := 1) dX1_sight_18 rfl) ?_
      refine kdg (fun k10 => ?_)
      refine bdg (fun s11 v12 he13 => ?_)
      refine im (go_callV (pc := 19) (Y := YX1_sight) (Yc := YX1_refused) (y := yX1_refused) (n := 1) (c0 := 0) (q := (RX1, TX1, 25)) this [iV 1] [] rfl rfl k10 (mX1_refused s0 he13) YOK_X1_refused rfl q288 q129 q287 qs0 q285 (Nat.le_of_ble_eq_true rfl) (Nat.le_of_ble_eq_true rfl) (Nat.le_of_ble_eq_true rfl) dX1_sight_19 (st2 := [iV v12]) rfl) ?_
      clear he13
      refine e2 (fun q0 q1 => ?_)
      subst q0
      subst q1
      exact go_iret (pc := 22) (Y := YX1_sight) rfl dX1_sight_22
    · refine im (go_aload_n (pc := 23) (Y := YX1_sight) 0 dX1_sight_23 rfl rfl) ?_
      refine flp (go_gR (pc := 24) (Y := YX1_sight) fF1001 (by decide) q201 (Or.inl rfl) dX1_sight_24) (fun v14 => ?_)
      refine flp (go_gR (pc := 27) (Y := YX1_sight) fF1027 (by decide) q343 (Or.inl rfl) dX1_sight_27) (fun v15 => ?_)
      refine im (go_iload_n (pc := 30) (Y := YX1_sight) 1 dX1_sight_30 rfl rfl) ?_
      refine ivg (fun w16 r17 k18 => ?_)
      refine bpg (fun v19 he20 => ?_)
      refine im (go_callV (pc := 31) (Y := YX1_sight) (Yc := YJ2_get) (y := yJ2_get) (n := 1) (c0 := 1) (q := (RJ2, TJ2, 3)) w16 [iV p0] [] (by rw [r17]; rfl) rfl k18 (mJ2_get s0 he20) YOK_J2_get rfl q769 q132 q767 q768 q1172 (Nat.le_of_ble_eq_true rfl) (Nat.le_of_ble_eq_true rfl) (Nat.le_of_ble_eq_true rfl) dX1_sight_31 (st2 := [rV v19]) rfl) ?_
      clear he20
      refine flp (go_cast (pc := 34) (Y := YX1_sight) (cs := [15]) (nm := "ThirdWitness$Sight") (by decide +kernel) q1173 dX1_sight_34) (fun h21 => ?_)
      revert h21
      refine im (go_astore_n (pc := 37) (Y := YX1_sight) (ls2 := [(3, rV v19), (0, rV (some this)), (1, iV p0), (2, iV p1)]) dX1_sight_37 rfl (Nat.le_of_ble_eq_true rfl) rfl) ?_
      refine im (go_aload_n (pc := 38) (Y := YX1_sight) 1 dX1_sight_38 rfl rfl) ?_
      refine im (go_iload_n (pc := 39) (Y := YX1_sight) 3 dX1_sight_39 rfl rfl) ?_
      refine flp2 (go_if_ne (pc := 40) (Y := YX1_sight) 50 dX1_sight_40 (by decide)) ?_ ?_
      · refine im (go_aload_n (pc := 43) (Y := YX1_sight) 0 dX1_sight_43 rfl rfl) ?_
        refine flp (go_gI (pc := 44) (Y := YX1_sight) fF63 (by decide) q867 (Or.inl rfl) dX1_sight_44) (fun v22 => ?_)
        refine im (go_goto (pc := 47) (Y := YX1_sight) 81 dX1_sight_47 (by decide)) ?_
        refine kdg (fun k23 => ?_)
        refine bdg (fun s24 v25 he26 => ?_)
        refine im (go_callV (pc := 81) (Y := YX1_sight) (Yc := YX1_well) (y := yX1_well) (n := 1) (c0 := 0) (q := (RX1, TX1, 25)) this [iV v22] [] rfl rfl k23 (mX1_well s0 he26) YOK_X1_well rfl q1102 q129 q1101 qs29 q1099 (Nat.le_of_ble_eq_true rfl) (Nat.le_of_ble_eq_true rfl) (Nat.le_of_ble_eq_true rfl) dX1_sight_81 (st2 := [iV v25]) rfl) ?_
        clear he26
        refine e2 (fun q0 q1 => ?_)
        subst q0
        subst q1
        exact go_iret (pc := 84) (Y := YX1_sight) rfl dX1_sight_84
      · refine im (go_iload_n (pc := 50) (Y := YX1_sight) 3 dX1_sight_50 rfl rfl) ?_
        refine im (go_iconst (pc := 51) (Y := YX1_sight) (v := 1) dX1_sight_51 rfl) ?_
        refine flp2 (go_icmp_ne (pc := 52) (Y := YX1_sight) 62 dX1_sight_52 (by decide)) ?_ ?_
        · refine im (go_aload_n (pc := 55) (Y := YX1_sight) 0 dX1_sight_55 rfl rfl) ?_
          refine flp (go_gI (pc := 56) (Y := YX1_sight) fF64 (by decide) q871 (Or.inl rfl) dX1_sight_56) (fun v27 => ?_)
          refine im (go_goto (pc := 59) (Y := YX1_sight) 81 dX1_sight_59 (by decide)) ?_
          refine kdg (fun k28 => ?_)
          refine bdg (fun s29 v30 he31 => ?_)
          refine im (go_callV (pc := 81) (Y := YX1_sight) (Yc := YX1_well) (y := yX1_well) (n := 1) (c0 := 0) (q := (RX1, TX1, 25)) this [iV v27] [] rfl rfl k28 (mX1_well s0 he31) YOK_X1_well rfl q1102 q129 q1101 qs29 q1099 (Nat.le_of_ble_eq_true rfl) (Nat.le_of_ble_eq_true rfl) (Nat.le_of_ble_eq_true rfl) dX1_sight_81 (st2 := [iV v30]) rfl) ?_
          clear he31
          refine e2 (fun q0 q1 => ?_)
          subst q0
          subst q1
          exact go_iret (pc := 84) (Y := YX1_sight) rfl dX1_sight_84
        · refine im (go_aload_n (pc := 62) (Y := YX1_sight) 1 dX1_sight_62 rfl rfl) ?_
          refine flp (go_gR (pc := 63) (Y := YX1_sight) fF1002 (by decide) q202 (Or.inl rfl) dX1_sight_63) (fun v32 => ?_)
          refine flp (go_gI (pc := 66) (Y := YX1_sight) fF77 (by decide) q1063 (Or.inl rfl) dX1_sight_66) (fun v33 => ?_)
          refine im (go_iload_n (pc := 69) (Y := YX1_sight) 2 dX1_sight_69 rfl rfl) ?_
          refine bpg (fun v34 he35 => ?_)
          refine im (go_callS (pc := 70) (Y := YX1_sight) (Yc := YX1_has) (y := yX1_has) (n := 2) [iV v33, iV p0] [rV (some this)] rfl (mX1_has s0 he35) YOK_X1_has rfl q1176 q129 q1175 q1174 (Nat.le_of_ble_eq_true rfl) (Nat.le_of_ble_eq_true rfl) (Nat.le_of_ble_eq_true rfl) dX1_sight_70 (st2 := [iV v34, rV (some this)]) rfl) ?_
          clear he35
          refine flp2 (go_if_eq (pc := 73) (Y := YX1_sight) 80 dX1_sight_73 (by decide)) ?_ ?_
          · refine im (go_iconst (pc := 80) (Y := YX1_sight) (v := 0) dX1_sight_80 rfl) ?_
            refine kdg (fun k36 => ?_)
            refine bdg (fun s37 v38 he39 => ?_)
            refine im (go_callV (pc := 81) (Y := YX1_sight) (Yc := YX1_well) (y := yX1_well) (n := 1) (c0 := 0) (q := (RX1, TX1, 25)) this [iV 0] [] rfl rfl k36 (mX1_well s0 he39) YOK_X1_well rfl q1102 q129 q1101 qs29 q1099 (Nat.le_of_ble_eq_true rfl) (Nat.le_of_ble_eq_true rfl) (Nat.le_of_ble_eq_true rfl) dX1_sight_81 (st2 := [iV v38]) rfl) ?_
            clear he39
            refine e2 (fun q0 q1 => ?_)
            subst q0
            subst q1
            exact go_iret (pc := 84) (Y := YX1_sight) rfl dX1_sight_84
          · refine im (go_iconst (pc := 76) (Y := YX1_sight) (v := 1) dX1_sight_76 rfl) ?_
            refine im (go_goto (pc := 77) (Y := YX1_sight) 81 dX1_sight_77 (by decide)) ?_
            refine kdg (fun k40 => ?_)
            refine bdg (fun s41 v42 he43 => ?_)
            refine im (go_callV (pc := 81) (Y := YX1_sight) (Yc := YX1_well) (y := yX1_well) (n := 1) (c0 := 0) (q := (RX1, TX1, 25)) this [iV 1] [] rfl rfl k40 (mX1_well s0 he43) YOK_X1_well rfl q1102 q129 q1101 qs29 q1099 (Nat.le_of_ble_eq_true rfl) (Nat.le_of_ble_eq_true rfl) (Nat.le_of_ble_eq_true rfl) dX1_sight_81 (st2 := [iV v42]) rfl) ?_
            clear he43
            refine e2 (fun q0 q1 => ?_)
            subst q0
            subst q1
            exact go_iret (pc := 84) (Y := YX1_sight) rfl dX1_sight_84
abbrev YX1_isQuarrel : mY := (RX1, cX1_isQuarrel, 2, (Option.some .boolean), 2, 40, false)
theorem YOK_X1_isQuarrel : YOK yX1_isQuarrel 1 := ⟨⟨by decide +kernel, by decide +kernel⟩, by decide +kernel⟩
theorem mX1_isQuarrel {G : gG} (s0 : St) {this : Nat} {p0 : Int32} {vE : Int32} (h : sX1_isQuarrel s0 this p0 = some vE) : Mt G YX1_isQuarrel yX1_isQuarrel [rV (some this), iV p0] s0 (some (iV vE)) s0 := by
  refine go_start (ls0 := [(0, rV (some this)), (1, iV p0)]) (by decide +kernel) rfl (fun h => by cases h) (Nat.le_of_ble_eq_true rfl) rfl ?_
  revert h
  unfold sX1_isQuarrel
  refine im (go_aload_n (pc := 0) (Y := YX1_isQuarrel) 0 dX1_isQuarrel_0 rfl rfl) ?_
  refine flp (go_gR (pc := 1) (Y := YX1_isQuarrel) fF1001 (by decide) q201 (Or.inl rfl) dX1_isQuarrel_1) (fun v1 => ?_)
  refine flp2 (go_ifnull (pc := 4) (Y := YX1_isQuarrel) 25 dX1_isQuarrel_4 (by decide)) ?_ ?_
  · refine im (go_iconst (pc := 25) (Y := YX1_isQuarrel) (v := 0) dX1_isQuarrel_25 rfl) ?_
    refine e1 (fun q0 => ?_)
    subst q0
    exact go_zret (pc := 26) (Y := YX1_isQuarrel) rfl rfl dX1_isQuarrel_26
  · refine im (go_iload_n (pc := 7) (Y := YX1_isQuarrel) 1 dX1_isQuarrel_7 rfl rfl) ?_
    refine im (go_iconst (pc := 8) (Y := YX1_isQuarrel) (v := 0) dX1_isQuarrel_8 rfl) ?_
    refine im (go_aload_n (pc := 9) (Y := YX1_isQuarrel) 0 dX1_isQuarrel_9 rfl rfl) ?_
    refine kdg (fun k2 => ?_)
    refine bpg (fun v3 he4 => ?_)
    refine im (go_callV (pc := 10) (Y := YX1_isQuarrel) (Yc := YX1_quarrels) (y := yX1_quarrels) (n := 0) (c0 := 0) (q := (RX1, TX1, 25)) this [] [iV 0, iV p0] rfl rfl k2 (mX1_quarrels s0 he4) YOK_X1_quarrels rfl q1158 q129 q1157 qs33 q1155 (Nat.le_of_ble_eq_true rfl) (Nat.le_of_ble_eq_true rfl) (Nat.le_of_ble_eq_true rfl) dX1_isQuarrel_10 (st2 := [iV v3, iV 0, iV p0]) rfl) ?_
    clear he4
    refine im (go_iconst (pc := 13) (Y := YX1_isQuarrel) (v := 1) dX1_isQuarrel_13 rfl) ?_
    refine im (go_isub (pc := 14) (Y := YX1_isQuarrel) dX1_isQuarrel_14) ?_
    refine bpg (fun v5 he6 => ?_)
    refine im (go_callS (pc := 15) (Y := YX1_isQuarrel) (Yc := YX1_in) (y := yX1_in) (n := 3) [iV p0, iV 0, iV (v3 - 1)] [] rfl (mX1_in s0 he6) YOK_X1_in rfl q284 q129 q283 q282 (Nat.le_of_ble_eq_true rfl) (Nat.le_of_ble_eq_true rfl) (Nat.le_of_ble_eq_true rfl) dX1_isQuarrel_15 (st2 := [iV v5]) rfl) ?_
    clear he6
    refine flp2 (go_if_eq (pc := 18) (Y := YX1_isQuarrel) 25 dX1_isQuarrel_18 (by decide)) ?_ ?_
    · refine im (go_iconst (pc := 25) (Y := YX1_isQuarrel) (v := 0) dX1_isQuarrel_25 rfl) ?_
      refine e1 (fun q0 => ?_)
      subst q0
      exact go_zret (pc := 26) (Y := YX1_isQuarrel) rfl rfl dX1_isQuarrel_26
    · refine im (go_iconst (pc := 21) (Y := YX1_isQuarrel) (v := 1) dX1_isQuarrel_21 rfl) ?_
      refine im (go_goto (pc := 22) (Y := YX1_isQuarrel) 26 dX1_isQuarrel_22 (by decide)) ?_
      refine e1 (fun q0 => ?_)
      subst q0
      exact go_zret (pc := 26) (Y := YX1_isQuarrel) rfl rfl dX1_isQuarrel_26
abbrev YX1_quarrel : mY := (RX1, cX1_quarrel, 4, (Option.some .int), 4, 85, false)
theorem YOK_X1_quarrel : YOK yX1_quarrel 2 := ⟨⟨by decide +kernel, by decide +kernel⟩, by decide +kernel⟩
theorem mX1_quarrel {G : gG} (s0 : St) {this : Nat} {p0 : Int32} {p1 : Int32} {sE : St} {vE : Int32} (h : sX1_quarrel s0 this p0 p1 = some (sE, vE)) : Mt G YX1_quarrel yX1_quarrel [rV (some this), iV p0, iV p1] s0 (some (iV vE)) sE := by
  refine go_start (ls0 := [(0, rV (some this)), (1, iV p0), (2, iV p1)]) (by decide +kernel) rfl (fun h => by cases h) (Nat.le_of_ble_eq_true rfl) rfl ?_
  revert h
  unfold sX1_quarrel
  refine im (go_aload_n (pc := 0) (Y := YX1_quarrel) 0 dX1_quarrel_0 rfl rfl) ?_
  refine im (go_iload_n (pc := 1) (Y := YX1_quarrel) 1 dX1_quarrel_1 rfl rfl) ?_
  refine kdg (fun k1 => ?_)
  refine bpg (fun v2 he3 => ?_)
  refine im (go_callV (pc := 2) (Y := YX1_quarrel) (Yc := YX1_isQuarrel) (y := yX1_isQuarrel) (n := 1) (c0 := 0) (q := (RX1, TX1, 25)) this [iV p0] [] rfl rfl k1 (mX1_isQuarrel s0 he3) YOK_X1_isQuarrel rfl q1184 q129 q1183 qs36 q1181 (Nat.le_of_ble_eq_true rfl) (Nat.le_of_ble_eq_true rfl) (Nat.le_of_ble_eq_true rfl) dX1_quarrel_2 (st2 := [iV v2]) rfl) ?_
  clear he3
  refine flp2 (go_if_eq (pc := 5) (Y := YX1_quarrel) 17 dX1_quarrel_5 (by decide)) ?_ ?_
  · refine im (go_aload_n (pc := 17) (Y := YX1_quarrel) 0 dX1_quarrel_17 rfl rfl) ?_
    refine im (go_iconst (pc := 18) (Y := YX1_quarrel) (v := 1) dX1_quarrel_18 rfl) ?_
    refine kdg (fun k4 => ?_)
    refine bdg (fun s5 v6 he7 => ?_)
    refine im (go_callV (pc := 19) (Y := YX1_quarrel) (Yc := YX1_refused) (y := yX1_refused) (n := 1) (c0 := 0) (q := (RX1, TX1, 25)) this [iV 1] [] rfl rfl k4 (mX1_refused s0 he7) YOK_X1_refused rfl q288 q129 q287 qs0 q285 (Nat.le_of_ble_eq_true rfl) (Nat.le_of_ble_eq_true rfl) (Nat.le_of_ble_eq_true rfl) dX1_quarrel_19 (st2 := [iV v6]) rfl) ?_
    clear he7
    refine e2 (fun q0 q1 => ?_)
    subst q0
    subst q1
    exact go_iret (pc := 22) (Y := YX1_quarrel) rfl dX1_quarrel_22
  · refine im (go_iload_n (pc := 8) (Y := YX1_quarrel) 2 dX1_quarrel_8 rfl rfl) ?_
    refine im (go_iconst (pc := 9) (Y := YX1_quarrel) (v := 0) dX1_quarrel_9 rfl) ?_
    refine im (go_iconst (pc := 10) (Y := YX1_quarrel) (v := 4) dX1_quarrel_10 rfl) ?_
    refine bpg (fun v8 he9 => ?_)
    refine im (go_callS (pc := 11) (Y := YX1_quarrel) (Yc := YX1_in) (y := yX1_in) (n := 3) [iV p1, iV 0, iV 4] [] rfl (mX1_in s0 he9) YOK_X1_in rfl q284 q129 q283 q282 (Nat.le_of_ble_eq_true rfl) (Nat.le_of_ble_eq_true rfl) (Nat.le_of_ble_eq_true rfl) dX1_quarrel_11 (st2 := [iV v8]) rfl) ?_
    clear he9
    refine flp2 (go_if_ne (pc := 14) (Y := YX1_quarrel) 23 dX1_quarrel_14 (by decide)) ?_ ?_
    · refine im (go_aload_n (pc := 17) (Y := YX1_quarrel) 0 dX1_quarrel_17 rfl rfl) ?_
      refine im (go_iconst (pc := 18) (Y := YX1_quarrel) (v := 1) dX1_quarrel_18 rfl) ?_
      refine kdg (fun k10 => ?_)
      refine bdg (fun s11 v12 he13 => ?_)
      refine im (go_callV (pc := 19) (Y := YX1_quarrel) (Yc := YX1_refused) (y := yX1_refused) (n := 1) (c0 := 0) (q := (RX1, TX1, 25)) this [iV 1] [] rfl rfl k10 (mX1_refused s0 he13) YOK_X1_refused rfl q288 q129 q287 qs0 q285 (Nat.le_of_ble_eq_true rfl) (Nat.le_of_ble_eq_true rfl) (Nat.le_of_ble_eq_true rfl) dX1_quarrel_19 (st2 := [iV v12]) rfl) ?_
      clear he13
      refine e2 (fun q0 q1 => ?_)
      subst q0
      subst q1
      exact go_iret (pc := 22) (Y := YX1_quarrel) rfl dX1_quarrel_22
    · refine im (go_aload_n (pc := 23) (Y := YX1_quarrel) 0 dX1_quarrel_23 rfl rfl) ?_
      refine flp (go_gR (pc := 24) (Y := YX1_quarrel) fF1001 (by decide) q201 (Or.inl rfl) dX1_quarrel_24) (fun v14 => ?_)
      refine im (go_iload_n (pc := 27) (Y := YX1_quarrel) 1 dX1_quarrel_27 rfl rfl) ?_
      refine ivg (fun w15 r16 k17 => ?_)
      refine bpg (fun v18 he19 => ?_)
      refine im (go_callV (pc := 28) (Y := YX1_quarrel) (Yc := YX5_quarrel) (y := yX5_quarrel) (n := 1) (c0 := 5) (q := (RX5, TX5, 10)) w15 [iV p0] [] (by rw [r16]; rfl) rfl k17 (mX5_quarrel s0 he19) YOK_X5_quarrel rfl q1043 q136 q1041 q1042 q1159 (Nat.le_of_ble_eq_true rfl) (Nat.le_of_ble_eq_true rfl) (Nat.le_of_ble_eq_true rfl) dX1_quarrel_28 (st2 := [rV v18]) rfl) ?_
      clear he19
      refine im (go_astore_n (pc := 31) (Y := YX1_quarrel) (ls2 := [(3, rV v18), (0, rV (some this)), (1, iV p0), (2, iV p1)]) dX1_quarrel_31 rfl (Nat.le_of_ble_eq_true rfl) rfl) ?_
      refine im (go_aload_n (pc := 32) (Y := YX1_quarrel) 1 dX1_quarrel_32 rfl rfl) ?_
      refine im (go_iload_n (pc := 33) (Y := YX1_quarrel) 3 dX1_quarrel_33 rfl rfl) ?_
      refine flp2 (go_if_ne (pc := 34) (Y := YX1_quarrel) 44 dX1_quarrel_34 (by decide)) ?_ ?_
      · refine im (go_aload_n (pc := 37) (Y := YX1_quarrel) 0 dX1_quarrel_37 rfl rfl) ?_
        refine flp (go_gI (pc := 38) (Y := YX1_quarrel) fF71 (by decide) q999 (Or.inl rfl) dX1_quarrel_38) (fun v20 => ?_)
        refine im (go_goto (pc := 41) (Y := YX1_quarrel) 84 dX1_quarrel_41 (by decide)) ?_
        refine kdg (fun k21 => ?_)
        refine bdg (fun s22 v23 he24 => ?_)
        refine im (go_callV (pc := 84) (Y := YX1_quarrel) (Yc := YX1_well) (y := yX1_well) (n := 1) (c0 := 0) (q := (RX1, TX1, 25)) this [iV v20] [] rfl rfl k21 (mX1_well s0 he24) YOK_X1_well rfl q1102 q129 q1101 qs29 q1099 (Nat.le_of_ble_eq_true rfl) (Nat.le_of_ble_eq_true rfl) (Nat.le_of_ble_eq_true rfl) dX1_quarrel_84 (st2 := [iV v23]) rfl) ?_
        clear he24
        refine e2 (fun q0 q1 => ?_)
        subst q0
        subst q1
        exact go_iret (pc := 87) (Y := YX1_quarrel) rfl dX1_quarrel_87
      · refine im (go_iload_n (pc := 44) (Y := YX1_quarrel) 3 dX1_quarrel_44 rfl rfl) ?_
        refine im (go_iconst (pc := 45) (Y := YX1_quarrel) (v := 1) dX1_quarrel_45 rfl) ?_
        refine flp2 (go_icmp_ne (pc := 46) (Y := YX1_quarrel) 56 dX1_quarrel_46 (by decide)) ?_ ?_
        · refine im (go_aload_n (pc := 49) (Y := YX1_quarrel) 0 dX1_quarrel_49 rfl rfl) ?_
          refine flp (go_gI (pc := 50) (Y := YX1_quarrel) fF72 (by decide) q1001 (Or.inl rfl) dX1_quarrel_50) (fun v25 => ?_)
          refine im (go_goto (pc := 53) (Y := YX1_quarrel) 84 dX1_quarrel_53 (by decide)) ?_
          refine kdg (fun k26 => ?_)
          refine bdg (fun s27 v28 he29 => ?_)
          refine im (go_callV (pc := 84) (Y := YX1_quarrel) (Yc := YX1_well) (y := yX1_well) (n := 1) (c0 := 0) (q := (RX1, TX1, 25)) this [iV v25] [] rfl rfl k26 (mX1_well s0 he29) YOK_X1_well rfl q1102 q129 q1101 qs29 q1099 (Nat.le_of_ble_eq_true rfl) (Nat.le_of_ble_eq_true rfl) (Nat.le_of_ble_eq_true rfl) dX1_quarrel_84 (st2 := [iV v28]) rfl) ?_
          clear he29
          refine e2 (fun q0 q1 => ?_)
          subst q0
          subst q1
          exact go_iret (pc := 87) (Y := YX1_quarrel) rfl dX1_quarrel_87
        · refine im (go_iload_n (pc := 56) (Y := YX1_quarrel) 3 dX1_quarrel_56 rfl rfl) ?_
          refine im (go_iconst (pc := 57) (Y := YX1_quarrel) (v := 2) dX1_quarrel_57 rfl) ?_
          refine flp2 (go_icmp_ne (pc := 58) (Y := YX1_quarrel) 68 dX1_quarrel_58 (by decide)) ?_ ?_
          · refine im (go_aload_n (pc := 61) (Y := YX1_quarrel) 0 dX1_quarrel_61 rfl rfl) ?_
            refine flp (go_gI (pc := 62) (Y := YX1_quarrel) fF73 (by decide) q1003 (Or.inl rfl) dX1_quarrel_62) (fun v30 => ?_)
            refine im (go_goto (pc := 65) (Y := YX1_quarrel) 84 dX1_quarrel_65 (by decide)) ?_
            refine kdg (fun k31 => ?_)
            refine bdg (fun s32 v33 he34 => ?_)
            refine im (go_callV (pc := 84) (Y := YX1_quarrel) (Yc := YX1_well) (y := yX1_well) (n := 1) (c0 := 0) (q := (RX1, TX1, 25)) this [iV v30] [] rfl rfl k31 (mX1_well s0 he34) YOK_X1_well rfl q1102 q129 q1101 qs29 q1099 (Nat.le_of_ble_eq_true rfl) (Nat.le_of_ble_eq_true rfl) (Nat.le_of_ble_eq_true rfl) dX1_quarrel_84 (st2 := [iV v33]) rfl) ?_
            clear he34
            refine e2 (fun q0 q1 => ?_)
            subst q0
            subst q1
            exact go_iret (pc := 87) (Y := YX1_quarrel) rfl dX1_quarrel_87
          · refine im (go_iload_n (pc := 68) (Y := YX1_quarrel) 3 dX1_quarrel_68 rfl rfl) ?_
            refine im (go_iconst (pc := 69) (Y := YX1_quarrel) (v := 3) dX1_quarrel_69 rfl) ?_
            refine flp2 (go_icmp_ne (pc := 70) (Y := YX1_quarrel) 80 dX1_quarrel_70 (by decide)) ?_ ?_
            · refine im (go_aload_n (pc := 73) (Y := YX1_quarrel) 0 dX1_quarrel_73 rfl rfl) ?_
              refine flp (go_gI (pc := 74) (Y := YX1_quarrel) fF74 (by decide) q1005 (Or.inl rfl) dX1_quarrel_74) (fun v35 => ?_)
              refine im (go_goto (pc := 77) (Y := YX1_quarrel) 84 dX1_quarrel_77 (by decide)) ?_
              refine kdg (fun k36 => ?_)
              refine bdg (fun s37 v38 he39 => ?_)
              refine im (go_callV (pc := 84) (Y := YX1_quarrel) (Yc := YX1_well) (y := yX1_well) (n := 1) (c0 := 0) (q := (RX1, TX1, 25)) this [iV v35] [] rfl rfl k36 (mX1_well s0 he39) YOK_X1_well rfl q1102 q129 q1101 qs29 q1099 (Nat.le_of_ble_eq_true rfl) (Nat.le_of_ble_eq_true rfl) (Nat.le_of_ble_eq_true rfl) dX1_quarrel_84 (st2 := [iV v38]) rfl) ?_
              clear he39
              refine e2 (fun q0 q1 => ?_)
              subst q0
              subst q1
              exact go_iret (pc := 87) (Y := YX1_quarrel) rfl dX1_quarrel_87
            · refine im (go_aload_n (pc := 80) (Y := YX1_quarrel) 0 dX1_quarrel_80 rfl rfl) ?_
              refine flp (go_gI (pc := 81) (Y := YX1_quarrel) fF75 (by decide) q1007 (Or.inl rfl) dX1_quarrel_81) (fun v40 => ?_)
              refine kdg (fun k41 => ?_)
              refine bdg (fun s42 v43 he44 => ?_)
              refine im (go_callV (pc := 84) (Y := YX1_quarrel) (Yc := YX1_well) (y := yX1_well) (n := 1) (c0 := 0) (q := (RX1, TX1, 25)) this [iV v40] [] rfl rfl k41 (mX1_well s0 he44) YOK_X1_well rfl q1102 q129 q1101 qs29 q1099 (Nat.le_of_ble_eq_true rfl) (Nat.le_of_ble_eq_true rfl) (Nat.le_of_ble_eq_true rfl) dX1_quarrel_84 (st2 := [iV v43]) rfl) ?_
              clear he44
              refine e2 (fun q0 q1 => ?_)
              subst q0
              subst q1
              exact go_iret (pc := 87) (Y := YX1_quarrel) rfl dX1_quarrel_87
abbrev YX1_why : mY := (RX1, cX1_why, 5, (Option.some .int), 1, 22, false)
theorem YOK_X1_why : YOK yX1_why 4 := ⟨⟨by decide +kernel, by decide +kernel⟩, by decide +kernel⟩
theorem mX1_why {G : gG} (s0 : St) {this : Nat} {p0 : Int32} {p1 : Int32} {p2 : Int32} {p3 : Int32} {vE : Int32} (h : sX1_why s0 this p0 p1 p2 p3 = some vE) : Mt G YX1_why yX1_why [rV (some this), iV p0, iV p1, iV p2, iV p3] s0 (some (iV vE)) s0 := by
  refine go_start (ls0 := [(0, rV (some this)), (1, iV p0), (2, iV p1), (3, iV p2), (4, iV p3)]) (by decide +kernel) rfl (fun h => by cases h) (Nat.le_of_ble_eq_true rfl) rfl ?_
  revert h
  unfold sX1_why
  refine im (go_iload_n (pc := 0) (Y := YX1_why) 1 dX1_why_0 rfl rfl) ?_
  refine flp2 (go_if_ne (pc := 1) (Y := YX1_why) 8 dX1_why_1 (by decide)) ?_ ?_
  · refine im (go_iconst (pc := 4) (Y := YX1_why) (v := 1) dX1_why_4 rfl) ?_
    refine im (go_goto (pc := 5) (Y := YX1_why) 23 dX1_why_5 (by decide)) ?_
    refine e1 (fun q0 => ?_)
    subst q0
    exact go_iret (pc := 23) (Y := YX1_why) rfl dX1_why_23
  · refine im (go_iload_n (pc := 8) (Y := YX1_why) 2 dX1_why_8 rfl rfl) ?_
    refine im (go_iload_n (pc := 9) (Y := YX1_why) 3 dX1_why_9 rfl rfl) ?_
    refine im (go_iload (pc := 10) (Y := YX1_why) 4 dX1_why_10 rfl) ?_
    refine bpg (fun v1 he2 => ?_)
    refine im (go_callS (pc := 12) (Y := YX1_why) (Yc := YX1_in) (y := yX1_in) (n := 3) [iV p1, iV p2, iV p3] [] rfl (mX1_in s0 he2) YOK_X1_in rfl q284 q129 q283 q282 (Nat.le_of_ble_eq_true rfl) (Nat.le_of_ble_eq_true rfl) (Nat.le_of_ble_eq_true rfl) dX1_why_12 (st2 := [iV v1]) rfl) ?_
    clear he2
    refine flp2 (go_if_eq (pc := 15) (Y := YX1_why) 22 dX1_why_15 (by decide)) ?_ ?_
    · refine im (go_iconst (pc := 22) (Y := YX1_why) (v := 2) dX1_why_22 rfl) ?_
      refine e1 (fun q0 => ?_)
      subst q0
      exact go_iret (pc := 23) (Y := YX1_why) rfl dX1_why_23
    · refine im (go_iconst (pc := 18) (Y := YX1_why) (v := 0) dX1_why_18 rfl) ?_
      refine im (go_goto (pc := 19) (Y := YX1_why) 23 dX1_why_19 (by decide)) ?_
      refine e1 (fun q0 => ?_)
      subst q0
      exact go_iret (pc := 23) (Y := YX1_why) rfl dX1_why_23
abbrev YX1_at : mY := (RX1, cX1_at, 4, (Option.some .int), 5, 107, false)
theorem YOK_X1_at : YOK yX1_at 2 := ⟨⟨by decide +kernel, by decide +kernel⟩, by decide +kernel⟩
theorem mX1_at {G : gG} (s0 : St) {this : Nat} {p0 : Int32} {p1 : Int32} {sE : St} {vE : Int32} (h : sX1_at s0 this p0 p1 = some (sE, vE)) : Mt G YX1_at yX1_at [rV (some this), iV p0, iV p1] s0 (some (iV vE)) sE := by
  refine go_start (ls0 := [(0, rV (some this)), (1, iV p0), (2, iV p1)]) (by decide +kernel) rfl (fun h => by cases h) (Nat.le_of_ble_eq_true rfl) rfl ?_
  revert h
  unfold sX1_at
  refine im (go_aload_n (pc := 0) (Y := YX1_at) 0 dX1_at_0 rfl rfl) ?_
  refine im (go_aload_n (pc := 1) (Y := YX1_at) 0 dX1_at_1 rfl rfl) ?_
  refine im (go_iload_n (pc := 2) (Y := YX1_at) 1 dX1_at_2 rfl rfl) ?_
  refine kdg (fun k1 => ?_)
  refine bpg (fun v2 he3 => ?_)
  refine im (go_callV (pc := 3) (Y := YX1_at) (Yc := YX1_isPerson) (y := yX1_isPerson) (n := 1) (c0 := 0) (q := (RX1, TX1, 25)) this [iV p0] [rV (some this)] rfl rfl k1 (mX1_isPerson s0 he3) YOK_X1_isPerson rfl q1118 q129 q1117 qs30 q1115 (Nat.le_of_ble_eq_true rfl) (Nat.le_of_ble_eq_true rfl) (Nat.le_of_ble_eq_true rfl) dX1_at_3 (st2 := [iV v2, rV (some this)]) rfl) ?_
  clear he3
  refine im (go_iload_n (pc := 6) (Y := YX1_at) 2 dX1_at_6 rfl rfl) ?_
  refine im (go_iconst (pc := 7) (Y := YX1_at) (v := 0) dX1_at_7 rfl) ?_
  refine im (go_bipush (pc := 8) (Y := YX1_at) (v := 59) dX1_at_8 rfl) ?_
  refine kdg (fun k4 => ?_)
  refine bpg (fun v5 he6 => ?_)
  refine im (go_callV (pc := 10) (Y := YX1_at) (Yc := YX1_why) (y := yX1_why) (n := 4) (c0 := 0) (q := (RX1, TX1, 25)) this [iV v2, iV p1, iV 0, iV 59] [] rfl rfl k4 (mX1_why s0 he6) YOK_X1_why rfl q1192 q129 q1191 qs37 q1189 (Nat.le_of_ble_eq_true rfl) (Nat.le_of_ble_eq_true rfl) (Nat.le_of_ble_eq_true rfl) dX1_at_10 (st2 := [iV v5]) rfl) ?_
  clear he6
  refine im (go_istore_n (pc := 13) (Y := YX1_at) (ls2 := [(3, iV v5), (0, rV (some this)), (1, iV p0), (2, iV p1)]) dX1_at_13 rfl (Nat.le_of_ble_eq_true rfl) rfl) ?_
  refine im (go_iload_n (pc := 14) (Y := YX1_at) 0 dX1_at_14 rfl rfl) ?_
  refine flp2 (go_if_le (pc := 15) (Y := YX1_at) 26 dX1_at_15 (by decide)) ?_ ?_
  · refine im (go_aload_n (pc := 26) (Y := YX1_at) 1 dX1_at_26 rfl rfl) ?_
    refine im (go_aload_n (pc := 27) (Y := YX1_at) 1 dX1_at_27 rfl rfl) ?_
    refine flp (go_gR (pc := 28) (Y := YX1_at) fF1002 (by decide) q202 (Or.inl rfl) dX1_at_28) (fun v7 => ?_)
    refine im (go_iload_n (pc := 31) (Y := YX1_at) 2 dX1_at_31 rfl rfl) ?_
    refine im (go_iload_n (pc := 32) (Y := YX1_at) 3 dX1_at_32 rfl rfl) ?_
    refine ivg (fun w8 r9 k10 => ?_)
    refine bpg (fun v11 he12 => ?_)
    refine im (go_callV (pc := 33) (Y := YX1_at) (Yc := YX14_at) (y := yX14_at) (n := 2) (c0 := 16) (q := (RX14, TX14, 4)) w8 [iV p0, iV p1] [rV (some this)] (by rw [r9]; rfl) rfl k10 (mX14_at s0 he12) YOK_X14_at rfl q1196 q156 q1194 q1195 q1193 (Nat.le_of_ble_eq_true rfl) (Nat.le_of_ble_eq_true rfl) (Nat.le_of_ble_eq_true rfl) dX1_at_33 (st2 := [iV v11, rV (some this)]) rfl) ?_
    clear he12
    refine kdg (fun k13 => ?_)
    refine bdg (fun s14 v15 he16 => ?_)
    refine im (go_callV (pc := 36) (Y := YX1_at) (Yc := YX1_well) (y := yX1_well) (n := 1) (c0 := 0) (q := (RX1, TX1, 25)) this [iV v11] [] rfl rfl k13 (mX1_well s0 he16) YOK_X1_well rfl q1102 q129 q1101 qs29 q1099 (Nat.le_of_ble_eq_true rfl) (Nat.le_of_ble_eq_true rfl) (Nat.le_of_ble_eq_true rfl) dX1_at_36 (st2 := [iV v15]) rfl) ?_
    clear he16
    refine e2 (fun q0 q1 => ?_)
    subst q0
    subst q1
    exact go_iret (pc := 39) (Y := YX1_at) rfl dX1_at_39
  · refine im (go_aload_n (pc := 18) (Y := YX1_at) 1 dX1_at_18 rfl rfl) ?_
    refine im (go_iload_n (pc := 19) (Y := YX1_at) 0 dX1_at_19 rfl rfl) ?_
    refine kdg (fun k17 => ?_)
    refine bdg (fun s18 v19 he20 => ?_)
    refine im (go_callV (pc := 20) (Y := YX1_at) (Yc := YX1_refused) (y := yX1_refused) (n := 1) (c0 := 0) (q := (RX1, TX1, 25)) this [iV v5] [] rfl rfl k17 (mX1_refused s0 he20) YOK_X1_refused rfl q288 q129 q287 qs0 q285 (Nat.le_of_ble_eq_true rfl) (Nat.le_of_ble_eq_true rfl) (Nat.le_of_ble_eq_true rfl) dX1_at_20 (st2 := [iV v19]) rfl) ?_
    clear he20
    refine im (go_goto (pc := 23) (Y := YX1_at) 39 dX1_at_23 (by decide)) ?_
    refine e2 (fun q0 q1 => ?_)
    subst q0
    subst q1
    exact go_iret (pc := 39) (Y := YX1_at) rfl dX1_at_39
abbrev YX1_isPlace : mY := (RX1, cX1_isPlace, 2, (Option.some .boolean), 2, 40, false)
theorem YOK_X1_isPlace : YOK yX1_isPlace 1 := ⟨⟨by decide +kernel, by decide +kernel⟩, by decide +kernel⟩
theorem mX1_isPlace {G : gG} (s0 : St) {this : Nat} {p0 : Int32} {vE : Int32} (h : sX1_isPlace s0 this p0 = some vE) : Mt G YX1_isPlace yX1_isPlace [rV (some this), iV p0] s0 (some (iV vE)) s0 := by
  refine go_start (ls0 := [(0, rV (some this)), (1, iV p0)]) (by decide +kernel) rfl (fun h => by cases h) (Nat.le_of_ble_eq_true rfl) rfl ?_
  revert h
  unfold sX1_isPlace
  refine im (go_aload_n (pc := 0) (Y := YX1_isPlace) 0 dX1_isPlace_0 rfl rfl) ?_
  refine flp (go_gR (pc := 1) (Y := YX1_isPlace) fF1001 (by decide) q201 (Or.inl rfl) dX1_isPlace_1) (fun v1 => ?_)
  refine flp2 (go_ifnull (pc := 4) (Y := YX1_isPlace) 25 dX1_isPlace_4 (by decide)) ?_ ?_
  · refine im (go_iconst (pc := 25) (Y := YX1_isPlace) (v := 0) dX1_isPlace_25 rfl) ?_
    refine e1 (fun q0 => ?_)
    subst q0
    exact go_zret (pc := 26) (Y := YX1_isPlace) rfl rfl dX1_isPlace_26
  · refine im (go_iload_n (pc := 7) (Y := YX1_isPlace) 1 dX1_isPlace_7 rfl rfl) ?_
    refine im (go_iconst (pc := 8) (Y := YX1_isPlace) (v := 0) dX1_isPlace_8 rfl) ?_
    refine im (go_aload_n (pc := 9) (Y := YX1_isPlace) 0 dX1_isPlace_9 rfl rfl) ?_
    refine kdg (fun k2 => ?_)
    refine bpg (fun v3 he4 => ?_)
    refine im (go_callV (pc := 10) (Y := YX1_isPlace) (Yc := YX1_places) (y := yX1_places) (n := 0) (c0 := 0) (q := (RX1, TX1, 25)) this [] [iV 0, iV p0] rfl rfl k2 (mX1_places s0 he4) YOK_X1_places rfl q1097 q129 q1096 qs28 q1094 (Nat.le_of_ble_eq_true rfl) (Nat.le_of_ble_eq_true rfl) (Nat.le_of_ble_eq_true rfl) dX1_isPlace_10 (st2 := [iV v3, iV 0, iV p0]) rfl) ?_
    clear he4
    refine im (go_iconst (pc := 13) (Y := YX1_isPlace) (v := 1) dX1_isPlace_13 rfl) ?_
    refine im (go_isub (pc := 14) (Y := YX1_isPlace) dX1_isPlace_14) ?_
    refine bpg (fun v5 he6 => ?_)
    refine im (go_callS (pc := 15) (Y := YX1_isPlace) (Yc := YX1_in) (y := yX1_in) (n := 3) [iV p0, iV 0, iV (v3 - 1)] [] rfl (mX1_in s0 he6) YOK_X1_in rfl q284 q129 q283 q282 (Nat.le_of_ble_eq_true rfl) (Nat.le_of_ble_eq_true rfl) (Nat.le_of_ble_eq_true rfl) dX1_isPlace_15 (st2 := [iV v5]) rfl) ?_
    clear he6
    refine flp2 (go_if_eq (pc := 18) (Y := YX1_isPlace) 25 dX1_isPlace_18 (by decide)) ?_ ?_
    · refine im (go_iconst (pc := 25) (Y := YX1_isPlace) (v := 0) dX1_isPlace_25 rfl) ?_
      refine e1 (fun q0 => ?_)
      subst q0
      exact go_zret (pc := 26) (Y := YX1_isPlace) rfl rfl dX1_isPlace_26
    · refine im (go_iconst (pc := 21) (Y := YX1_isPlace) (v := 1) dX1_isPlace_21 rfl) ?_
      refine im (go_goto (pc := 22) (Y := YX1_isPlace) 26 dX1_isPlace_22 (by decide)) ?_
      refine e1 (fun q0 => ?_)
      subst q0
      exact go_zret (pc := 26) (Y := YX1_isPlace) rfl rfl dX1_isPlace_26
abbrev YX1_into : mY := (RX1, cX1_into, 2, (Option.some .int), 4, 87, false)
theorem YOK_X1_into : YOK yX1_into 1 := ⟨⟨by decide +kernel, by decide +kernel⟩, by decide +kernel⟩
theorem mX1_into {G : gG} (s0 : St) {this : Nat} {p0 : Int32} {sE : St} {vE : Int32} (h : sX1_into s0 this p0 = some (sE, vE)) : Mt G YX1_into yX1_into [rV (some this), iV p0] s0 (some (iV vE)) sE := by
  refine go_start (ls0 := [(0, rV (some this)), (1, iV p0)]) (by decide +kernel) rfl (fun h => by cases h) (Nat.le_of_ble_eq_true rfl) rfl ?_
  revert h
  unfold sX1_into
  refine im (go_aload_n (pc := 0) (Y := YX1_into) 0 dX1_into_0 rfl rfl) ?_
  refine im (go_iload_n (pc := 1) (Y := YX1_into) 1 dX1_into_1 rfl rfl) ?_
  refine kdg (fun k1 => ?_)
  refine bpg (fun v2 he3 => ?_)
  refine im (go_callV (pc := 2) (Y := YX1_into) (Yc := YX1_isPlace) (y := yX1_isPlace) (n := 1) (c0 := 0) (q := (RX1, TX1, 25)) this [iV p0] [] rfl rfl k1 (mX1_isPlace s0 he3) YOK_X1_isPlace rfl q1213 q129 q1212 qs38 q1210 (Nat.le_of_ble_eq_true rfl) (Nat.le_of_ble_eq_true rfl) (Nat.le_of_ble_eq_true rfl) dX1_into_2 (st2 := [iV v2]) rfl) ?_
  clear he3
  refine flp2 (go_if_eq (pc := 5) (Y := YX1_into) 23 dX1_into_5 (by decide)) ?_ ?_
  · refine im (go_aload_n (pc := 23) (Y := YX1_into) 0 dX1_into_23 rfl rfl) ?_
    refine im (go_iconst (pc := 24) (Y := YX1_into) (v := 1) dX1_into_24 rfl) ?_
    refine kdg (fun k4 => ?_)
    refine bdg (fun s5 v6 he7 => ?_)
    refine im (go_callV (pc := 25) (Y := YX1_into) (Yc := YX1_refused) (y := yX1_refused) (n := 1) (c0 := 0) (q := (RX1, TX1, 25)) this [iV 1] [] rfl rfl k4 (mX1_refused s0 he7) YOK_X1_refused rfl q288 q129 q287 qs0 q285 (Nat.le_of_ble_eq_true rfl) (Nat.le_of_ble_eq_true rfl) (Nat.le_of_ble_eq_true rfl) dX1_into_25 (st2 := [iV v6]) rfl) ?_
    clear he7
    refine e2 (fun q0 q1 => ?_)
    subst q0
    subst q1
    exact go_iret (pc := 28) (Y := YX1_into) rfl dX1_into_28
  · refine im (go_aload_n (pc := 8) (Y := YX1_into) 0 dX1_into_8 rfl rfl) ?_
    refine im (go_aload_n (pc := 9) (Y := YX1_into) 0 dX1_into_9 rfl rfl) ?_
    refine flp (go_gR (pc := 10) (Y := YX1_into) fF1002 (by decide) q202 (Or.inl rfl) dX1_into_10) (fun v8 => ?_)
    refine im (go_iload_n (pc := 13) (Y := YX1_into) 1 dX1_into_13 rfl rfl) ?_
    refine ivg (fun w9 r10 k11 => ?_)
    refine bpg (fun v12 he13 => ?_)
    refine im (go_callV (pc := 14) (Y := YX1_into) (Yc := YX14_into) (y := yX14_into) (n := 1) (c0 := 16) (q := (RX14, TX14, 4)) w9 [iV p0] [rV (some this)] (by rw [r10]; rfl) rfl k11 (mX14_into s0 he13) YOK_X14_into rfl q1217 q156 q1215 q1216 q1214 (Nat.le_of_ble_eq_true rfl) (Nat.le_of_ble_eq_true rfl) (Nat.le_of_ble_eq_true rfl) dX1_into_14 (st2 := [iV v12, rV (some this)]) rfl) ?_
    clear he13
    refine kdg (fun k14 => ?_)
    refine bdg (fun s15 v16 he17 => ?_)
    refine im (go_callV (pc := 17) (Y := YX1_into) (Yc := YX1_well) (y := yX1_well) (n := 1) (c0 := 0) (q := (RX1, TX1, 25)) this [iV v12] [] rfl rfl k14 (mX1_well s0 he17) YOK_X1_well rfl q1102 q129 q1101 qs29 q1099 (Nat.le_of_ble_eq_true rfl) (Nat.le_of_ble_eq_true rfl) (Nat.le_of_ble_eq_true rfl) dX1_into_17 (st2 := [iV v16]) rfl) ?_
    clear he17
    refine im (go_goto (pc := 20) (Y := YX1_into) 28 dX1_into_20 (by decide)) ?_
    refine e2 (fun q0 q1 => ?_)
    subst q0
    subst q1
    exact go_iret (pc := 28) (Y := YX1_into) rfl dX1_into_28
abbrev YX1_watchers : mY := (RX1, cX1_watchers, 4, (Option.some .int), 6, 132, false)
theorem YOK_X1_watchers : YOK yX1_watchers 2 := ⟨⟨by decide +kernel, by decide +kernel⟩, by decide +kernel⟩
theorem mX1_watchers {G : gG} (s0 : St) {this : Nat} {p0 : Int32} {p1 : Int32} {sE : St} {vE : Int32} (h : sX1_watchers s0 this p0 p1 = some (sE, vE)) : Mt G YX1_watchers yX1_watchers [rV (some this), iV p0, iV p1] s0 (some (iV vE)) sE := by
  refine go_start (ls0 := [(0, rV (some this)), (1, iV p0), (2, iV p1)]) (by decide +kernel) rfl (fun h => by cases h) (Nat.le_of_ble_eq_true rfl) rfl ?_
  revert h
  unfold sX1_watchers
  refine im (go_aload_n (pc := 0) (Y := YX1_watchers) 0 dX1_watchers_0 rfl rfl) ?_
  refine im (go_aload_n (pc := 1) (Y := YX1_watchers) 0 dX1_watchers_1 rfl rfl) ?_
  refine im (go_iload_n (pc := 2) (Y := YX1_watchers) 1 dX1_watchers_2 rfl rfl) ?_
  refine kdg (fun k1 => ?_)
  refine bpg (fun v2 he3 => ?_)
  refine im (go_callV (pc := 3) (Y := YX1_watchers) (Yc := YX1_isPlace) (y := yX1_isPlace) (n := 1) (c0 := 0) (q := (RX1, TX1, 25)) this [iV p0] [rV (some this)] rfl rfl k1 (mX1_isPlace s0 he3) YOK_X1_isPlace rfl q1213 q129 q1212 qs38 q1210 (Nat.le_of_ble_eq_true rfl) (Nat.le_of_ble_eq_true rfl) (Nat.le_of_ble_eq_true rfl) dX1_watchers_3 (st2 := [iV v2, rV (some this)]) rfl) ?_
  clear he3
  refine im (go_iload_n (pc := 6) (Y := YX1_watchers) 2 dX1_watchers_6 rfl rfl) ?_
  refine im (go_iconst (pc := 7) (Y := YX1_watchers) (v := 0) dX1_watchers_7 rfl) ?_
  refine im (go_bipush (pc := 8) (Y := YX1_watchers) (v := 59) dX1_watchers_8 rfl) ?_
  refine kdg (fun k4 => ?_)
  refine bpg (fun v5 he6 => ?_)
  refine im (go_callV (pc := 10) (Y := YX1_watchers) (Yc := YX1_why) (y := yX1_why) (n := 4) (c0 := 0) (q := (RX1, TX1, 25)) this [iV v2, iV p1, iV 0, iV 59] [] rfl rfl k4 (mX1_why s0 he6) YOK_X1_why rfl q1192 q129 q1191 qs37 q1189 (Nat.le_of_ble_eq_true rfl) (Nat.le_of_ble_eq_true rfl) (Nat.le_of_ble_eq_true rfl) dX1_watchers_10 (st2 := [iV v5]) rfl) ?_
  clear he6
  refine im (go_istore_n (pc := 13) (Y := YX1_watchers) (ls2 := [(3, iV v5), (0, rV (some this)), (1, iV p0), (2, iV p1)]) dX1_watchers_13 rfl (Nat.le_of_ble_eq_true rfl) rfl) ?_
  refine im (go_iload_n (pc := 14) (Y := YX1_watchers) 0 dX1_watchers_14 rfl rfl) ?_
  refine flp2 (go_if_le (pc := 15) (Y := YX1_watchers) 26 dX1_watchers_15 (by decide)) ?_ ?_
  · refine im (go_aload_n (pc := 26) (Y := YX1_watchers) 1 dX1_watchers_26 rfl rfl) ?_
    refine im (go_aload_n (pc := 27) (Y := YX1_watchers) 1 dX1_watchers_27 rfl rfl) ?_
    refine flp (go_gR (pc := 28) (Y := YX1_watchers) fF1002 (by decide) q202 (Or.inl rfl) dX1_watchers_28) (fun v7 => ?_)
    refine im (go_iload_n (pc := 31) (Y := YX1_watchers) 2 dX1_watchers_31 rfl rfl) ?_
    refine im (go_iload_n (pc := 32) (Y := YX1_watchers) 3 dX1_watchers_32 rfl rfl) ?_
    refine ivg (fun w8 r9 k10 => ?_)
    refine bpg (fun v11 he12 => ?_)
    refine im (go_callV (pc := 33) (Y := YX1_watchers) (Yc := YX14_watchers) (y := yX14_watchers) (n := 2) (c0 := 16) (q := (RX14, TX14, 4)) w8 [iV p0, iV p1] [rV (some this)] (by rw [r9]; rfl) rfl k10 (mX14_watchers s0 he12) YOK_X14_watchers rfl q1229 q156 q1227 q1228 q1226 (Nat.le_of_ble_eq_true rfl) (Nat.le_of_ble_eq_true rfl) (Nat.le_of_ble_eq_true rfl) dX1_watchers_33 (st2 := [iV v11, rV (some this)]) rfl) ?_
    clear he12
    refine kdg (fun k13 => ?_)
    refine bdg (fun s14 v15 he16 => ?_)
    refine im (go_callV (pc := 36) (Y := YX1_watchers) (Yc := YX1_well) (y := yX1_well) (n := 1) (c0 := 0) (q := (RX1, TX1, 25)) this [iV v11] [] rfl rfl k13 (mX1_well s0 he16) YOK_X1_well rfl q1102 q129 q1101 qs29 q1099 (Nat.le_of_ble_eq_true rfl) (Nat.le_of_ble_eq_true rfl) (Nat.le_of_ble_eq_true rfl) dX1_watchers_36 (st2 := [iV v15]) rfl) ?_
    clear he16
    refine e2 (fun q0 q1 => ?_)
    subst q0
    subst q1
    exact go_iret (pc := 39) (Y := YX1_watchers) rfl dX1_watchers_39
  · refine im (go_aload_n (pc := 18) (Y := YX1_watchers) 1 dX1_watchers_18 rfl rfl) ?_
    refine im (go_iload_n (pc := 19) (Y := YX1_watchers) 0 dX1_watchers_19 rfl rfl) ?_
    refine kdg (fun k17 => ?_)
    refine bdg (fun s18 v19 he20 => ?_)
    refine im (go_callV (pc := 20) (Y := YX1_watchers) (Yc := YX1_refused) (y := yX1_refused) (n := 1) (c0 := 0) (q := (RX1, TX1, 25)) this [iV v5] [] rfl rfl k17 (mX1_refused s0 he20) YOK_X1_refused rfl q288 q129 q287 qs0 q285 (Nat.le_of_ble_eq_true rfl) (Nat.le_of_ble_eq_true rfl) (Nat.le_of_ble_eq_true rfl) dX1_watchers_20 (st2 := [iV v19]) rfl) ?_
    clear he20
    refine im (go_goto (pc := 23) (Y := YX1_watchers) 39 dX1_watchers_23 (by decide)) ?_
    refine e2 (fun q0 q1 => ?_)
    subst q0
    subst q1
    exact go_iret (pc := 39) (Y := YX1_watchers) rfl dX1_watchers_39
abbrev YX1_eyesOf : mY := (RX1, cX1_eyesOf, 2, (Option.some .int), 4, 85, false)
theorem YOK_X1_eyesOf : YOK yX1_eyesOf 1 := ⟨⟨by decide +kernel, by decide +kernel⟩, by decide +kernel⟩
theorem mX1_eyesOf {G : gG} (s0 : St) {this : Nat} {p0 : Int32} {vE : Int32} (h : sX1_eyesOf s0 this p0 = some vE) : Mt G YX1_eyesOf yX1_eyesOf [rV (some this), iV p0] s0 (some (iV vE)) s0 := by
  refine go_start (ls0 := [(0, rV (some this)), (1, iV p0)]) (by decide +kernel) rfl (fun h => by cases h) (Nat.le_of_ble_eq_true rfl) rfl ?_
  revert h
  unfold sX1_eyesOf
  refine im (go_iload_n (pc := 0) (Y := YX1_eyesOf) 1 dX1_eyesOf_0 rfl rfl) ?_
  refine im (go_aload_n (pc := 1) (Y := YX1_eyesOf) 0 dX1_eyesOf_1 rfl rfl) ?_
  refine flp (go_gI (pc := 2) (Y := YX1_eyesOf) fF4 (by decide) q206 (Or.inl rfl) dX1_eyesOf_2) (fun v1 => ?_)
  refine flp2 (go_icmp_ne (pc := 5) (Y := YX1_eyesOf) 12 dX1_eyesOf_5 (by decide)) ?_ ?_
  · refine im (go_iconst (pc := 8) (Y := YX1_eyesOf) (v := 2) dX1_eyesOf_8 rfl) ?_
    refine im (go_goto (pc := 9) (Y := YX1_eyesOf) 23 dX1_eyesOf_9 (by decide)) ?_
    refine e1 (fun q0 => ?_)
    subst q0
    exact go_iret (pc := 23) (Y := YX1_eyesOf) rfl dX1_eyesOf_23
  · refine im (go_aload_n (pc := 12) (Y := YX1_eyesOf) 0 dX1_eyesOf_12 rfl rfl) ?_
    refine flp (go_gR (pc := 13) (Y := YX1_eyesOf) fF1001 (by decide) q201 (Or.inl rfl) dX1_eyesOf_13) (fun v2 => ?_)
    refine im (go_iload_n (pc := 16) (Y := YX1_eyesOf) 1 dX1_eyesOf_16 rfl rfl) ?_
    refine ivg (fun w3 r4 k5 => ?_)
    refine bpg (fun v6 he7 => ?_)
    refine im (go_callV (pc := 17) (Y := YX1_eyesOf) (Yc := YX5_person) (y := yX5_person) (n := 1) (c0 := 5) (q := (RX5, TX5, 10)) w3 [iV p0] [] (by rw [r4]; rfl) rfl k5 (mX5_person s0 he7) YOK_X5_person rfl q986 q136 q984 q985 q1123 (Nat.le_of_ble_eq_true rfl) (Nat.le_of_ble_eq_true rfl) (Nat.le_of_ble_eq_true rfl) dX1_eyesOf_17 (st2 := [rV v6]) rfl) ?_
    clear he7
    refine xNg (fun w10 r11 => ?_)
    refine bpg (fun v8 he9 => ?_)
    refine im (dv_eyes_go (pc := 20) (Y := YX1_eyesOf) [] (by rw [r11]; rfl) he9 q1138 (Nat.le_of_ble_eq_true rfl) (Nat.le_of_ble_eq_true rfl) (Nat.le_of_ble_eq_true rfl) dX1_eyesOf_20 (st2 := [iV v8]) rfl) ?_
    clear he9
    refine e1 (fun q0 => ?_)
    subst q0
    exact go_iret (pc := 23) (Y := YX1_eyesOf) rfl dX1_eyesOf_23
abbrev YX1_eyesOfAll : mY := (RX1, cX1_eyesOfAll, 4, (Option.some .int), 5, 106, false)
theorem YOK_X1_eyesOfAll : YOK yX1_eyesOfAll 1 := ⟨⟨by decide +kernel, by decide +kernel⟩, by decide +kernel⟩
theorem sX1_eyesOfAll_L4_go {G : gG} {s0 sE : St} {rE : Option V3} (s1 : St) (this : Nat) (i1 : Int32) : ∀ (n : Nat) (v2 : Int32) (v3 : Int32) (v4 : Int32), sX1_eyesOfAll_L4 s1 this i1 n v2 v3 = some v4 → Go G YX1_eyesOfAll s0 sE rE 38 [(2, iV v4)] [] s1 → Go G YX1_eyesOfAll s0 sE rE 4 [(0, rV (some this)), (1, iV i1), (2, iV v2), (3, iV v3)] [] s1 := by
  intro n
  induction n with
  | zero => intro v2 v3 v4 h hx; rw [sX1_eyesOfAll_L4] at h; cases h
  | succ n ih =>
    intro v2 v3 v4 h hx
    revert h
    rw [sX1_eyesOfAll_L4]
    refine im (go_iload_n (pc := 4) (Y := YX1_eyesOfAll) 3 dX1_eyesOfAll_4 rfl rfl) ?_
    refine im (go_aload_n (pc := 5) (Y := YX1_eyesOfAll) 0 dX1_eyesOfAll_5 rfl rfl) ?_
    refine kdg (fun k5 => ?_)
    refine bpg (fun v6 he7 => ?_)
    refine im (go_callV (pc := 6) (Y := YX1_eyesOfAll) (Yc := YX1_people) (y := yX1_people) (n := 0) (c0 := 0) (q := (RX1, TX1, 25)) this [] [iV v3] rfl rfl k5 (mX1_people s1 he7) YOK_X1_people rfl q1122 q129 q1121 qs31 q1119 (Nat.le_of_ble_eq_true rfl) (Nat.le_of_ble_eq_true rfl) (Nat.le_of_ble_eq_true rfl) dX1_eyesOfAll_6 (st2 := [iV v6, iV v3]) rfl) ?_
    clear he7
    refine flp2 (go_icmp_ge (pc := 9) (Y := YX1_eyesOfAll) 38 dX1_eyesOfAll_9 (by decide)) ?_ ?_
    · refine e1 (fun q0 => ?_)
      subst q0
      exact go_sub [2] rfl hx
    · refine im (go_iload_n (pc := 12) (Y := YX1_eyesOfAll) 2 dX1_eyesOfAll_12 rfl rfl) ?_
      refine im (go_iload_n (pc := 13) (Y := YX1_eyesOfAll) 1 dX1_eyesOfAll_13 rfl rfl) ?_
      refine im (go_iload_n (pc := 14) (Y := YX1_eyesOfAll) 3 dX1_eyesOfAll_14 rfl rfl) ?_
      refine bpg (fun v8 he9 => ?_)
      refine im (go_callS (pc := 15) (Y := YX1_eyesOfAll) (Yc := YX1_has) (y := yX1_has) (n := 2) [iV i1, iV v3] [iV v2] rfl (mX1_has s1 he9) YOK_X1_has rfl q1176 q129 q1175 q1174 (Nat.le_of_ble_eq_true rfl) (Nat.le_of_ble_eq_true rfl) (Nat.le_of_ble_eq_true rfl) dX1_eyesOfAll_15 (st2 := [iV v8, iV v2]) rfl) ?_
      clear he9
      refine bpg (fun v10 he14 h15 => ?_)
      have hj30 : Go G YX1_eyesOfAll s0 sE rE 30 [(0, rV (some this)), (1, iV i1), (3, iV v3)] [iV v10, iV v2] s1 := by
        clear he14
        revert h15
        refine im (go_iadd (pc := 30) (Y := YX1_eyesOfAll) dX1_eyesOfAll_30) ?_
        refine im (go_istore_n (pc := 31) (Y := YX1_eyesOfAll) (ls2 := [(2, iV (v2 + v10)), (0, rV (some this)), (1, iV i1), (3, iV v3)]) dX1_eyesOfAll_31 rfl (Nat.le_of_ble_eq_true rfl) rfl) ?_
        refine im (go_iinc (pc := 32) (Y := YX1_eyesOfAll) 3 (v := (v3 + 1)) (ls2 := [(3, iV (v3 + 1)), (2, iV (v2 + v10)), (0, rV (some this)), (1, iV i1)]) dX1_eyesOfAll_32 rfl rfl (Nat.le_of_ble_eq_true rfl) rfl) ?_
        refine im (go_goto (pc := 35) (Y := YX1_eyesOfAll) 4 dX1_eyesOfAll_35 (by decide)) ?_
        exact fun hq => go_sub [2, 3, 1, 0] rfl (ih _ _ _ hq hx)
      clear h15
      revert he14
      refine flp2 (go_if_eq (pc := 18) (Y := YX1_eyesOfAll) 29 dX1_eyesOfAll_18 (by decide)) ?_ ?_
      · refine im (go_iconst (pc := 29) (Y := YX1_eyesOfAll) (v := 0) dX1_eyesOfAll_29 rfl) ?_
        refine e1 (fun q0 => ?_)
        subst q0
        exact go_sub [0, 1, 3] rfl hj30
      · refine im (go_aload_n (pc := 21) (Y := YX1_eyesOfAll) 0 dX1_eyesOfAll_21 rfl rfl) ?_
        refine im (go_iload_n (pc := 22) (Y := YX1_eyesOfAll) 3 dX1_eyesOfAll_22 rfl rfl) ?_
        refine kdg (fun k11 => ?_)
        refine bpg (fun v12 he13 => ?_)
        refine im (go_callV (pc := 23) (Y := YX1_eyesOfAll) (Yc := YX1_eyesOf) (y := yX1_eyesOf) (n := 1) (c0 := 0) (q := (RX1, TX1, 25)) this [iV v3] [iV v2] rfl rfl k11 (mX1_eyesOf s1 he13) YOK_X1_eyesOf rfl q1246 q129 q1245 qs40 q1243 (Nat.le_of_ble_eq_true rfl) (Nat.le_of_ble_eq_true rfl) (Nat.le_of_ble_eq_true rfl) dX1_eyesOfAll_23 (st2 := [iV v12, iV v2]) rfl) ?_
        clear he13
        refine im (go_goto (pc := 26) (Y := YX1_eyesOfAll) 30 dX1_eyesOfAll_26 (by decide)) ?_
        refine e1 (fun q0 => ?_)
        subst q0
        exact go_sub [0, 1, 3] rfl hj30
theorem mX1_eyesOfAll {G : gG} (s0 : St) {this : Nat} {p0 : Int32} {vE : Int32} (h : sX1_eyesOfAll s0 this p0 = some vE) : Mt G YX1_eyesOfAll yX1_eyesOfAll [rV (some this), iV p0] s0 (some (iV vE)) s0 := by
  refine go_start (ls0 := [(0, rV (some this)), (1, iV p0)]) (by decide +kernel) rfl (fun h => by cases h) (Nat.le_of_ble_eq_true rfl) rfl ?_
  revert h
  unfold sX1_eyesOfAll
  refine im (go_iconst (pc := 0) (Y := YX1_eyesOfAll) (v := 0) dX1_eyesOfAll_0 rfl) ?_
  refine im (go_istore_n (pc := 1) (Y := YX1_eyesOfAll) (ls2 := [(2, iV 0), (0, rV (some this)), (1, iV p0)]) dX1_eyesOfAll_1 rfl (Nat.le_of_ble_eq_true rfl) rfl) ?_
  refine im (go_iconst (pc := 2) (Y := YX1_eyesOfAll) (v := 0) dX1_eyesOfAll_2 rfl) ?_
  refine im (go_istore_n (pc := 3) (Y := YX1_eyesOfAll) (ls2 := [(3, iV 0), (2, iV 0), (0, rV (some this)), (1, iV p0)]) dX1_eyesOfAll_3 rfl (Nat.le_of_ble_eq_true rfl) rfl) ?_
  refine bpg (fun v16 he17 h18 => ?_)
  refine go_sub [2, 3, 1, 0] rfl (sX1_eyesOfAll_L4_go s0 this p0 FU _ _ _ he17 ?_)
  clear he17
  revert h18
  refine im (go_iload_n (pc := 38) (Y := YX1_eyesOfAll) 0 dX1_eyesOfAll_38 rfl rfl) ?_
  refine e1 (fun q0 => ?_)
  subst q0
  exact go_iret (pc := 39) (Y := YX1_eyesOfAll) rfl dX1_eyesOfAll_39
abbrev YX1_eyes : mY := (RX1, cX1_eyes, 4, (Option.some .int), 6, 132, false)
theorem YOK_X1_eyes : YOK yX1_eyes 2 := ⟨⟨by decide +kernel, by decide +kernel⟩, by decide +kernel⟩
theorem mX1_eyes {G : gG} (s0 : St) {this : Nat} {p0 : Int32} {p1 : Int32} {sE : St} {vE : Int32} (h : sX1_eyes s0 this p0 p1 = some (sE, vE)) : Mt G YX1_eyes yX1_eyes [rV (some this), iV p0, iV p1] s0 (some (iV vE)) sE := by
  refine go_start (ls0 := [(0, rV (some this)), (1, iV p0), (2, iV p1)]) (by decide +kernel) rfl (fun h => by cases h) (Nat.le_of_ble_eq_true rfl) rfl ?_
  revert h
  unfold sX1_eyes
  refine im (go_aload_n (pc := 0) (Y := YX1_eyes) 0 dX1_eyes_0 rfl rfl) ?_
  refine im (go_aload_n (pc := 1) (Y := YX1_eyes) 0 dX1_eyes_1 rfl rfl) ?_
  refine im (go_iload_n (pc := 2) (Y := YX1_eyes) 1 dX1_eyes_2 rfl rfl) ?_
  refine kdg (fun k1 => ?_)
  refine bpg (fun v2 he3 => ?_)
  refine im (go_callV (pc := 3) (Y := YX1_eyes) (Yc := YX1_isPlace) (y := yX1_isPlace) (n := 1) (c0 := 0) (q := (RX1, TX1, 25)) this [iV p0] [rV (some this)] rfl rfl k1 (mX1_isPlace s0 he3) YOK_X1_isPlace rfl q1213 q129 q1212 qs38 q1210 (Nat.le_of_ble_eq_true rfl) (Nat.le_of_ble_eq_true rfl) (Nat.le_of_ble_eq_true rfl) dX1_eyes_3 (st2 := [iV v2, rV (some this)]) rfl) ?_
  clear he3
  refine im (go_iload_n (pc := 6) (Y := YX1_eyes) 2 dX1_eyes_6 rfl rfl) ?_
  refine im (go_iconst (pc := 7) (Y := YX1_eyes) (v := 0) dX1_eyes_7 rfl) ?_
  refine im (go_bipush (pc := 8) (Y := YX1_eyes) (v := 59) dX1_eyes_8 rfl) ?_
  refine kdg (fun k4 => ?_)
  refine bpg (fun v5 he6 => ?_)
  refine im (go_callV (pc := 10) (Y := YX1_eyes) (Yc := YX1_why) (y := yX1_why) (n := 4) (c0 := 0) (q := (RX1, TX1, 25)) this [iV v2, iV p1, iV 0, iV 59] [] rfl rfl k4 (mX1_why s0 he6) YOK_X1_why rfl q1192 q129 q1191 qs37 q1189 (Nat.le_of_ble_eq_true rfl) (Nat.le_of_ble_eq_true rfl) (Nat.le_of_ble_eq_true rfl) dX1_eyes_10 (st2 := [iV v5]) rfl) ?_
  clear he6
  refine im (go_istore_n (pc := 13) (Y := YX1_eyes) (ls2 := [(3, iV v5), (0, rV (some this)), (1, iV p0), (2, iV p1)]) dX1_eyes_13 rfl (Nat.le_of_ble_eq_true rfl) rfl) ?_
  refine im (go_iload_n (pc := 14) (Y := YX1_eyes) 0 dX1_eyes_14 rfl rfl) ?_
  refine flp2 (go_if_le (pc := 15) (Y := YX1_eyes) 26 dX1_eyes_15 (by decide)) ?_ ?_
  · refine im (go_aload_n (pc := 26) (Y := YX1_eyes) 1 dX1_eyes_26 rfl rfl) ?_
    refine im (go_aload_n (pc := 27) (Y := YX1_eyes) 1 dX1_eyes_27 rfl rfl) ?_
    refine im (go_aload_n (pc := 28) (Y := YX1_eyes) 1 dX1_eyes_28 rfl rfl) ?_
    refine flp (go_gR (pc := 29) (Y := YX1_eyes) fF1002 (by decide) q202 (Or.inl rfl) dX1_eyes_29) (fun v7 => ?_)
    refine im (go_iload_n (pc := 32) (Y := YX1_eyes) 2 dX1_eyes_32 rfl rfl) ?_
    refine im (go_iload_n (pc := 33) (Y := YX1_eyes) 3 dX1_eyes_33 rfl rfl) ?_
    refine ivg (fun w8 r9 k10 => ?_)
    refine bpg (fun v11 he12 => ?_)
    refine im (go_callV (pc := 34) (Y := YX1_eyes) (Yc := YX14_watchers) (y := yX14_watchers) (n := 2) (c0 := 16) (q := (RX14, TX14, 4)) w8 [iV p0, iV p1] [rV (some this), rV (some this)] (by rw [r9]; rfl) rfl k10 (mX14_watchers s0 he12) YOK_X14_watchers rfl q1229 q156 q1227 q1228 q1226 (Nat.le_of_ble_eq_true rfl) (Nat.le_of_ble_eq_true rfl) (Nat.le_of_ble_eq_true rfl) dX1_eyes_34 (st2 := [iV v11, rV (some this), rV (some this)]) rfl) ?_
    clear he12
    refine kdg (fun k13 => ?_)
    refine bpg (fun v14 he15 => ?_)
    refine im (go_callV (pc := 37) (Y := YX1_eyes) (Yc := YX1_eyesOfAll) (y := yX1_eyesOfAll) (n := 1) (c0 := 0) (q := (RX1, TX1, 25)) this [iV v11] [rV (some this)] rfl rfl k13 (mX1_eyesOfAll s0 he15) YOK_X1_eyesOfAll rfl q1242 q129 q1241 qs39 q1239 (Nat.le_of_ble_eq_true rfl) (Nat.le_of_ble_eq_true rfl) (Nat.le_of_ble_eq_true rfl) dX1_eyes_37 (st2 := [iV v14, rV (some this)]) rfl) ?_
    clear he15
    refine kdg (fun k16 => ?_)
    refine bdg (fun s17 v18 he19 => ?_)
    refine im (go_callV (pc := 40) (Y := YX1_eyes) (Yc := YX1_well) (y := yX1_well) (n := 1) (c0 := 0) (q := (RX1, TX1, 25)) this [iV v14] [] rfl rfl k16 (mX1_well s0 he19) YOK_X1_well rfl q1102 q129 q1101 qs29 q1099 (Nat.le_of_ble_eq_true rfl) (Nat.le_of_ble_eq_true rfl) (Nat.le_of_ble_eq_true rfl) dX1_eyes_40 (st2 := [iV v18]) rfl) ?_
    clear he19
    refine e2 (fun q0 q1 => ?_)
    subst q0
    subst q1
    exact go_iret (pc := 43) (Y := YX1_eyes) rfl dX1_eyes_43
  · refine im (go_aload_n (pc := 18) (Y := YX1_eyes) 1 dX1_eyes_18 rfl rfl) ?_
    refine im (go_iload_n (pc := 19) (Y := YX1_eyes) 0 dX1_eyes_19 rfl rfl) ?_
    refine kdg (fun k20 => ?_)
    refine bdg (fun s21 v22 he23 => ?_)
    refine im (go_callV (pc := 20) (Y := YX1_eyes) (Yc := YX1_refused) (y := yX1_refused) (n := 1) (c0 := 0) (q := (RX1, TX1, 25)) this [iV v5] [] rfl rfl k20 (mX1_refused s0 he23) YOK_X1_refused rfl q288 q129 q287 qs0 q285 (Nat.le_of_ble_eq_true rfl) (Nat.le_of_ble_eq_true rfl) (Nat.le_of_ble_eq_true rfl) dX1_eyes_20 (st2 := [iV v22]) rfl) ?_
    clear he23
    refine im (go_goto (pc := 23) (Y := YX1_eyes) 43 dX1_eyes_23 (by decide)) ?_
    refine e2 (fun q0 q1 => ?_)
    subst q0
    subst q1
    exact go_iret (pc := 43) (Y := YX1_eyes) rfl dX1_eyes_43
abbrev YX1_hidden : mY := (RX1, cX1_hidden, 5, (Option.some .int), 6, 132, false)
theorem YOK_X1_hidden : YOK yX1_hidden 1 := ⟨⟨by decide +kernel, by decide +kernel⟩, by decide +kernel⟩
theorem sX1_hidden_L36_go {G : gG} {s0 sE : St} {rE : Option V3} (s6 : St) (this : Nat) (i1 : Int32) : ∀ (n : Nat) (v7 : Int32) (v8 : Int32) (v9 : Int32), sX1_hidden_L36 s6 this i1 n v7 v8 = some v9 → Go G YX1_hidden s0 sE rE 79 [(0, rV (some this)), (3, iV v9)] [] s6 → Go G YX1_hidden s0 sE rE 36 [(0, rV (some this)), (1, iV i1), (3, iV v7), (4, iV v8)] [] s6 := by
  intro n
  induction n with
  | zero => intro v7 v8 v9 h hx; rw [sX1_hidden_L36] at h; cases h
  | succ n ih =>
    intro v7 v8 v9 h hx
    revert h
    rw [sX1_hidden_L36]
    refine im (go_iload (pc := 36) (Y := YX1_hidden) 3 dX1_hidden_36 rfl) ?_
    refine im (go_aload_n (pc := 38) (Y := YX1_hidden) 0 dX1_hidden_38 rfl rfl) ?_
    refine kdg (fun k10 => ?_)
    refine bpg (fun v11 he12 => ?_)
    refine im (go_callV (pc := 39) (Y := YX1_hidden) (Yc := YX1_places) (y := yX1_places) (n := 0) (c0 := 0) (q := (RX1, TX1, 25)) this [] [iV v8] rfl rfl k10 (mX1_places s6 he12) YOK_X1_places rfl q1097 q129 q1096 qs28 q1094 (Nat.le_of_ble_eq_true rfl) (Nat.le_of_ble_eq_true rfl) (Nat.le_of_ble_eq_true rfl) dX1_hidden_39 (st2 := [iV v11, iV v8]) rfl) ?_
    clear he12
    refine flp2 (go_icmp_ge (pc := 42) (Y := YX1_hidden) 79 dX1_hidden_42 (by decide)) ?_ ?_
    · refine e1 (fun q0 => ?_)
      subst q0
      exact go_sub [0, 2] rfl hx
    · refine im (go_iload_n (pc := 45) (Y := YX1_hidden) 2 dX1_hidden_45 rfl rfl) ?_
      refine im (go_aload_n (pc := 46) (Y := YX1_hidden) 0 dX1_hidden_46 rfl rfl) ?_
      refine im (go_aload_n (pc := 47) (Y := YX1_hidden) 0 dX1_hidden_47 rfl rfl) ?_
      refine flp (go_gR (pc := 48) (Y := YX1_hidden) fF1002 (by decide) q202 (Or.inl rfl) dX1_hidden_48) (fun v13 => ?_)
      refine im (go_iload (pc := 51) (Y := YX1_hidden) 3 dX1_hidden_51 rfl) ?_
      refine im (go_iload_n (pc := 53) (Y := YX1_hidden) 1 dX1_hidden_53 rfl rfl) ?_
      refine ivg (fun w14 r15 k16 => ?_)
      refine bpg (fun v17 he18 => ?_)
      refine im (go_callV (pc := 54) (Y := YX1_hidden) (Yc := YX14_watchers) (y := yX14_watchers) (n := 2) (c0 := 16) (q := (RX14, TX14, 4)) w14 [iV v8, iV i1] [rV (some this), iV v7] (by rw [r15]; rfl) rfl k16 (mX14_watchers s6 he18) YOK_X14_watchers rfl q1229 q156 q1227 q1228 q1226 (Nat.le_of_ble_eq_true rfl) (Nat.le_of_ble_eq_true rfl) (Nat.le_of_ble_eq_true rfl) dX1_hidden_54 (st2 := [iV v17, rV (some this), iV v7]) rfl) ?_
      clear he18
      refine kdg (fun k19 => ?_)
      refine bpg (fun v20 he21 => ?_)
      refine im (go_callV (pc := 57) (Y := YX1_hidden) (Yc := YX1_eyesOfAll) (y := yX1_eyesOfAll) (n := 1) (c0 := 0) (q := (RX1, TX1, 25)) this [iV v17] [iV v7] rfl rfl k19 (mX1_eyesOfAll s6 he21) YOK_X1_eyesOfAll rfl q1242 q129 q1241 qs39 q1239 (Nat.le_of_ble_eq_true rfl) (Nat.le_of_ble_eq_true rfl) (Nat.le_of_ble_eq_true rfl) dX1_hidden_57 (st2 := [iV v20, iV v7]) rfl) ?_
      clear he21
      refine bpg (fun v22 he23 h24 => ?_)
      have hj71 : Go G YX1_hidden s0 sE rE 71 [(0, rV (some this)), (1, iV i1), (4, iV v8)] [iV v22, iV v7] s6 := by
        clear he23
        revert h24
        refine im (go_ior (pc := 71) (Y := YX1_hidden) dX1_hidden_71) ?_
        refine im (go_istore_n (pc := 72) (Y := YX1_hidden) (ls2 := [(3, iV (v7 ||| v22)), (0, rV (some this)), (1, iV i1), (4, iV v8)]) dX1_hidden_72 rfl (Nat.le_of_ble_eq_true rfl) rfl) ?_
        refine im (go_iinc (pc := 73) (Y := YX1_hidden) 3 (v := (v8 + 1)) (ls2 := [(4, iV (v8 + 1)), (3, iV (v7 ||| v22)), (0, rV (some this)), (1, iV i1)]) dX1_hidden_73 rfl rfl (Nat.le_of_ble_eq_true rfl) rfl) ?_
        refine im (go_goto (pc := 76) (Y := YX1_hidden) 36 dX1_hidden_76 (by decide)) ?_
        exact fun hq => go_sub [2, 3, 1, 0] rfl (ih _ _ _ hq hx)
      clear h24
      revert he23
      refine flp2 (go_if_ne (pc := 60) (Y := YX1_hidden) 70 dX1_hidden_60 (by decide)) ?_ ?_
      · refine im (go_iconst (pc := 63) (Y := YX1_hidden) (v := 1) dX1_hidden_63 rfl) ?_
        refine im (go_iload (pc := 64) (Y := YX1_hidden) 3 dX1_hidden_64 rfl) ?_
        refine im (go_ishl (pc := 66) (Y := YX1_hidden) dX1_hidden_66) ?_
        refine im (go_goto (pc := 67) (Y := YX1_hidden) 71 dX1_hidden_67 (by decide)) ?_
        refine e1 (fun q0 => ?_)
        subst q0
        exact go_sub [0, 1, 3] rfl hj71
      · refine im (go_iconst (pc := 70) (Y := YX1_hidden) (v := 0) dX1_hidden_70 rfl) ?_
        refine e1 (fun q0 => ?_)
        subst q0
        exact go_sub [0, 1, 3] rfl hj71
theorem mX1_hidden {G : gG} (s0 : St) {this : Nat} {p0 : Int32} {sE : St} {vE : Int32} (h : sX1_hidden s0 this p0 = some (sE, vE)) : Mt G YX1_hidden yX1_hidden [rV (some this), iV p0] s0 (some (iV vE)) sE := by
  refine go_start (ls0 := [(0, rV (some this)), (1, iV p0)]) (by decide +kernel) rfl (fun h => by cases h) (Nat.le_of_ble_eq_true rfl) rfl ?_
  revert h
  unfold sX1_hidden
  refine im (go_aload_n (pc := 0) (Y := YX1_hidden) 0 dX1_hidden_0 rfl rfl) ?_
  refine im (go_aload_n (pc := 1) (Y := YX1_hidden) 0 dX1_hidden_1 rfl rfl) ?_
  refine flp (go_gR (pc := 2) (Y := YX1_hidden) fF1001 (by decide) q201 (Or.inl rfl) dX1_hidden_2) (fun v1 => ?_)
  refine bpg (fun v2 he36 h37 => ?_)
  have hj13 : Go G YX1_hidden s0 sE (some (iV vE)) 13 [(0, rV (some this)), (1, iV p0)] [iV v2, rV (some this)] s0 := by
    clear he36
    revert h37
    refine im (go_iload_n (pc := 13) (Y := YX1_hidden) 1 dX1_hidden_13 rfl rfl) ?_
    refine im (go_iconst (pc := 14) (Y := YX1_hidden) (v := 0) dX1_hidden_14 rfl) ?_
    refine im (go_bipush (pc := 15) (Y := YX1_hidden) (v := 59) dX1_hidden_15 rfl) ?_
    refine kdg (fun k3 => ?_)
    refine bpg (fun v4 he5 => ?_)
    refine im (go_callV (pc := 17) (Y := YX1_hidden) (Yc := YX1_why) (y := yX1_why) (n := 4) (c0 := 0) (q := (RX1, TX1, 25)) this [iV v2, iV p0, iV 0, iV 59] [] rfl rfl k3 (mX1_why s0 he5) YOK_X1_why rfl q1192 q129 q1191 qs37 q1189 (Nat.le_of_ble_eq_true rfl) (Nat.le_of_ble_eq_true rfl) (Nat.le_of_ble_eq_true rfl) dX1_hidden_17 (st2 := [iV v4]) rfl) ?_
    clear he5
    refine im (go_istore_n (pc := 20) (Y := YX1_hidden) (ls2 := [(2, iV v4), (0, rV (some this)), (1, iV p0)]) dX1_hidden_20 rfl (Nat.le_of_ble_eq_true rfl) rfl) ?_
    refine im (go_iload_n (pc := 21) (Y := YX1_hidden) 0 dX1_hidden_21 rfl rfl) ?_
    refine flp2 (go_if_le (pc := 22) (Y := YX1_hidden) 31 dX1_hidden_22 (by decide)) ?_ ?_
    · refine im (go_iconst (pc := 31) (Y := YX1_hidden) (v := 0) dX1_hidden_31 rfl) ?_
      refine im (go_istore_n (pc := 32) (Y := YX1_hidden) (ls2 := [(3, iV 0), (2, iV v4), (0, rV (some this)), (1, iV p0)]) dX1_hidden_32 rfl (Nat.le_of_ble_eq_true rfl) rfl) ?_
      refine im (go_iconst (pc := 33) (Y := YX1_hidden) (v := 0) dX1_hidden_33 rfl) ?_
      refine im (go_istore (pc := 34) (Y := YX1_hidden) (ls2 := [(4, iV 0), (3, iV 0), (2, iV v4), (0, rV (some this)), (1, iV p0)]) dX1_hidden_34 (Nat.le_of_ble_eq_true rfl) rfl) ?_
      refine bpg (fun v25 he30 h31 => ?_)
      refine go_sub [3, 4, 1, 0] rfl (sX1_hidden_L36_go s0 this p0 FU _ _ _ he30 ?_)
      clear he30
      revert h31
      refine im (go_aload_n (pc := 79) (Y := YX1_hidden) 0 dX1_hidden_79 rfl rfl) ?_
      refine im (go_iload_n (pc := 80) (Y := YX1_hidden) 1 dX1_hidden_80 rfl rfl) ?_
      refine kdg (fun k26 => ?_)
      refine bdg (fun s27 v28 he29 => ?_)
      refine im (go_callV (pc := 81) (Y := YX1_hidden) (Yc := YX1_well) (y := yX1_well) (n := 1) (c0 := 0) (q := (RX1, TX1, 25)) this [iV v25] [] rfl rfl k26 (mX1_well s0 he29) YOK_X1_well rfl q1102 q129 q1101 qs29 q1099 (Nat.le_of_ble_eq_true rfl) (Nat.le_of_ble_eq_true rfl) (Nat.le_of_ble_eq_true rfl) dX1_hidden_81 (st2 := [iV v28]) rfl) ?_
      clear he29
      refine e2 (fun q0 q1 => ?_)
      subst q0
      subst q1
      exact go_iret (pc := 84) (Y := YX1_hidden) rfl dX1_hidden_84
    · refine im (go_aload_n (pc := 25) (Y := YX1_hidden) 1 dX1_hidden_25 rfl rfl) ?_
      refine im (go_iload_n (pc := 26) (Y := YX1_hidden) 0 dX1_hidden_26 rfl rfl) ?_
      refine kdg (fun k32 => ?_)
      refine bdg (fun s33 v34 he35 => ?_)
      refine im (go_callV (pc := 27) (Y := YX1_hidden) (Yc := YX1_refused) (y := yX1_refused) (n := 1) (c0 := 0) (q := (RX1, TX1, 25)) this [iV v4] [] rfl rfl k32 (mX1_refused s0 he35) YOK_X1_refused rfl q288 q129 q287 qs0 q285 (Nat.le_of_ble_eq_true rfl) (Nat.le_of_ble_eq_true rfl) (Nat.le_of_ble_eq_true rfl) dX1_hidden_27 (st2 := [iV v34]) rfl) ?_
      clear he35
      refine e2 (fun q0 q1 => ?_)
      subst q0
      subst q1
      exact go_iret (pc := 30) (Y := YX1_hidden) rfl dX1_hidden_30
  clear h37
  revert he36
  refine flp2 (go_ifnull (pc := 5) (Y := YX1_hidden) 12 dX1_hidden_5 (by decide)) ?_ ?_
  · refine im (go_iconst (pc := 12) (Y := YX1_hidden) (v := 0) dX1_hidden_12 rfl) ?_
    refine e1 (fun q0 => ?_)
    subst q0
    exact go_sub [0, 1] rfl hj13
  · refine im (go_iconst (pc := 8) (Y := YX1_hidden) (v := 1) dX1_hidden_8 rfl) ?_
    refine im (go_goto (pc := 9) (Y := YX1_hidden) 13 dX1_hidden_9 (by decide)) ?_
    refine e1 (fun q0 => ?_)
    subst q0
    exact go_sub [0, 1] rfl hj13
abbrev YX1_square : mY := (RX1, cX1_square, 6, (Option.some .int), 6, 132, false)
theorem YOK_X1_square : YOK yX1_square 0 := ⟨⟨by decide +kernel, by decide +kernel⟩, by decide +kernel⟩
theorem sX1_square_L33_go {G : gG} {s0 sE : St} {rE : Option V3} (s14 : St) (this : Nat) (i1 : Int32) (i2 : Int32) (i3 : Int32) : ∀ (n : Nat) (v15 : Int32) (v16 : Int32) (v17 : Int32), sX1_square_L33 s14 this i3 n v15 v16 = some v17 → Go G YX1_square s0 sE rE 65 [(0, rV (some this)), (1, iV i1), (2, iV i2), (3, iV i3), (4, iV v17)] [] s14 → Go G YX1_square s0 sE rE 33 [(0, rV (some this)), (1, iV i1), (2, iV i2), (3, iV i3), (4, iV v15), (5, iV v16)] [] s14 := by
  intro n
  induction n with
  | zero => intro v15 v16 v17 h hx; rw [sX1_square_L33] at h; cases h
  | succ n ih =>
    intro v15 v16 v17 h hx
    revert h
    rw [sX1_square_L33]
    refine im (go_iload (pc := 33) (Y := YX1_square) 5 dX1_square_33 rfl) ?_
    refine im (go_bipush (pc := 35) (Y := YX1_square) (v := 59) dX1_square_35 rfl) ?_
    refine flp2 (go_icmp_gt (pc := 37) (Y := YX1_square) 65 dX1_square_37 (by decide)) ?_ ?_
    · refine e1 (fun q0 => ?_)
      subst q0
      exact go_sub [0, 1, 2, 3, 4] rfl hx
    · refine im (go_iload (pc := 40) (Y := YX1_square) 4 dX1_square_40 rfl) ?_
      refine im (go_aload_n (pc := 42) (Y := YX1_square) 0 dX1_square_42 rfl rfl) ?_
      refine im (go_aload_n (pc := 43) (Y := YX1_square) 0 dX1_square_43 rfl rfl) ?_
      refine flp (go_gR (pc := 44) (Y := YX1_square) fF1002 (by decide) q202 (Or.inl rfl) dX1_square_44) (fun v18 => ?_)
      refine im (go_iload_n (pc := 47) (Y := YX1_square) 3 dX1_square_47 rfl rfl) ?_
      refine im (go_iload (pc := 48) (Y := YX1_square) 5 dX1_square_48 rfl) ?_
      refine ivg (fun w19 r20 k21 => ?_)
      refine bpg (fun v22 he23 => ?_)
      refine im (go_callV (pc := 50) (Y := YX1_square) (Yc := YX14_watchers) (y := yX14_watchers) (n := 2) (c0 := 16) (q := (RX14, TX14, 4)) w19 [iV i3, iV v16] [rV (some this), iV v15] (by rw [r20]; rfl) rfl k21 (mX14_watchers s14 he23) YOK_X14_watchers rfl q1229 q156 q1227 q1228 q1226 (Nat.le_of_ble_eq_true rfl) (Nat.le_of_ble_eq_true rfl) (Nat.le_of_ble_eq_true rfl) dX1_square_50 (st2 := [iV v22, rV (some this), iV v15]) rfl) ?_
      clear he23
      refine kdg (fun k24 => ?_)
      refine bpg (fun v25 he26 => ?_)
      refine im (go_callV (pc := 53) (Y := YX1_square) (Yc := YX1_eyesOfAll) (y := yX1_eyesOfAll) (n := 1) (c0 := 0) (q := (RX1, TX1, 25)) this [iV v22] [iV v15] rfl rfl k24 (mX1_eyesOfAll s14 he26) YOK_X1_eyesOfAll rfl q1242 q129 q1241 qs39 q1239 (Nat.le_of_ble_eq_true rfl) (Nat.le_of_ble_eq_true rfl) (Nat.le_of_ble_eq_true rfl) dX1_square_53 (st2 := [iV v25, iV v15]) rfl) ?_
      clear he26
      refine im (go_iadd (pc := 56) (Y := YX1_square) dX1_square_56) ?_
      refine im (go_istore (pc := 57) (Y := YX1_square) (ls2 := [(4, iV (v15 + v25)), (0, rV (some this)), (1, iV i1), (2, iV i2), (3, iV i3), (5, iV v16)]) dX1_square_57 (Nat.le_of_ble_eq_true rfl) rfl) ?_
      refine im (go_iinc (pc := 59) (Y := YX1_square) 5 (v := (v16 + 1)) (ls2 := [(5, iV (v16 + 1)), (4, iV (v15 + v25)), (0, rV (some this)), (1, iV i1), (2, iV i2), (3, iV i3)]) dX1_square_59 rfl rfl (Nat.le_of_ble_eq_true rfl) rfl) ?_
      refine im (go_goto (pc := 62) (Y := YX1_square) 33 dX1_square_62 (by decide)) ?_
      exact fun hq => go_sub [2, 3, 4, 5, 1, 0] rfl (ih _ _ _ hq hx)
theorem sX1_square_L19_go {G : gG} {s0 sE : St} {rE : Option V3} (s6 : St) (this : Nat) : ∀ (n : Nat) (v7 : Int32) (v8 : Int32) (v9 : Int32) (v10 : Int32), sX1_square_L19 s6 this n v7 v8 v9 = some v10 → Go G YX1_square s0 sE rE 85 [(0, rV (some this)), (1, iV v10)] [] s6 → Go G YX1_square s0 sE rE 19 [(0, rV (some this)), (1, iV v7), (2, iV v8), (3, iV v9)] [] s6 := by
  intro n
  induction n with
  | zero => intro v7 v8 v9 v10 h hx; rw [sX1_square_L19] at h; cases h
  | succ n ih =>
    intro v7 v8 v9 v10 h hx
    revert h
    rw [sX1_square_L19]
    refine im (go_iload_n (pc := 19) (Y := YX1_square) 3 dX1_square_19 rfl rfl) ?_
    refine im (go_aload_n (pc := 20) (Y := YX1_square) 0 dX1_square_20 rfl rfl) ?_
    refine kdg (fun k11 => ?_)
    refine bpg (fun v12 he13 => ?_)
    refine im (go_callV (pc := 21) (Y := YX1_square) (Yc := YX1_places) (y := yX1_places) (n := 0) (c0 := 0) (q := (RX1, TX1, 25)) this [] [iV v9] rfl rfl k11 (mX1_places s6 he13) YOK_X1_places rfl q1097 q129 q1096 qs28 q1094 (Nat.le_of_ble_eq_true rfl) (Nat.le_of_ble_eq_true rfl) (Nat.le_of_ble_eq_true rfl) dX1_square_21 (st2 := [iV v12, iV v9]) rfl) ?_
    clear he13
    refine flp2 (go_icmp_ge (pc := 24) (Y := YX1_square) 85 dX1_square_24 (by decide)) ?_ ?_
    · refine e1 (fun q0 => ?_)
      subst q0
      exact go_sub [0, 1] rfl hx
    · refine im (go_iconst (pc := 27) (Y := YX1_square) (v := 0) dX1_square_27 rfl) ?_
      refine im (go_istore (pc := 28) (Y := YX1_square) (ls2 := [(4, iV 0), (0, rV (some this)), (1, iV v7), (2, iV v8), (3, iV v9)]) dX1_square_28 (Nat.le_of_ble_eq_true rfl) rfl) ?_
      refine im (go_iconst (pc := 30) (Y := YX1_square) (v := 0) dX1_square_30 rfl) ?_
      refine im (go_istore (pc := 31) (Y := YX1_square) (ls2 := [(5, iV 0), (4, iV 0), (0, rV (some this)), (1, iV v7), (2, iV v8), (3, iV v9)]) dX1_square_31 (Nat.le_of_ble_eq_true rfl) rfl) ?_
      refine bpg (fun v27 he32 h33 => ?_)
      refine go_sub [2, 3, 4, 5, 1, 0] rfl (sX1_square_L33_go s6 this v7 v8 v9 FU _ _ _ he32 ?_)
      clear he32
      revert h33
      refine im (go_iload (pc := 65) (Y := YX1_square) 4 dX1_square_65 rfl) ?_
      refine im (go_iload_n (pc := 67) (Y := YX1_square) 2 dX1_square_67 rfl rfl) ?_
      refine b2g (fun v28 v29 he30 h31 => ?_)
      have hj79 : Go G YX1_square s0 sE rE 79 [(0, rV (some this)), (1, iV v28), (2, iV v29), (3, iV v9)] [] s6 := by
        clear he30
        revert h31
        refine im (go_iinc (pc := 79) (Y := YX1_square) 3 (v := (v9 + 1)) (ls2 := [(3, iV (v9 + 1)), (0, rV (some this)), (1, iV v28), (2, iV v29)]) dX1_square_79 rfl rfl (Nat.le_of_ble_eq_true rfl) rfl) ?_
        refine im (go_goto (pc := 82) (Y := YX1_square) 19 dX1_square_82 (by decide)) ?_
        exact fun hq => go_sub [1, 2, 3, 0] rfl (ih _ _ _ _ hq hx)
      clear h31
      revert he30
      refine flp2 (go_icmp_gt (pc := 68) (Y := YX1_square) 74 dX1_square_68 (by decide)) ?_ ?_
      · refine im (go_iload (pc := 74) (Y := YX1_square) 4 dX1_square_74 rfl) ?_
        refine im (go_istore_n (pc := 76) (Y := YX1_square) (ls2 := [(2, iV v27), (0, rV (some this)), (1, iV v7), (3, iV v9), (4, iV v27)]) dX1_square_76 rfl (Nat.le_of_ble_eq_true rfl) rfl) ?_
        refine im (go_iload_n (pc := 77) (Y := YX1_square) 3 dX1_square_77 rfl rfl) ?_
        refine im (go_istore_n (pc := 78) (Y := YX1_square) (ls2 := [(1, iV v9), (2, iV v27), (0, rV (some this)), (3, iV v9), (4, iV v27)]) dX1_square_78 rfl (Nat.le_of_ble_eq_true rfl) rfl) ?_
        refine e2 (fun q0 q1 => ?_)
        subst q0
        subst q1
        exact go_sub [2, 0, 1, 3] rfl hj79
      · refine im (go_goto (pc := 71) (Y := YX1_square) 79 dX1_square_71 (by decide)) ?_
        refine e2 (fun q0 q1 => ?_)
        subst q0
        subst q1
        exact go_sub [0, 1, 2, 3] rfl hj79
theorem mX1_square {G : gG} (s0 : St) {this : Nat} {sE : St} {vE : Int32} (h : sX1_square s0 this = some (sE, vE)) : Mt G YX1_square yX1_square [rV (some this)] s0 (some (iV vE)) sE := by
  refine go_start (ls0 := [(0, rV (some this))]) (by decide +kernel) rfl (fun h => by cases h) (Nat.le_of_ble_eq_true rfl) rfl ?_
  revert h
  unfold sX1_square
  refine im (go_aload_n (pc := 0) (Y := YX1_square) 0 dX1_square_0 rfl rfl) ?_
  refine flp (go_gR (pc := 1) (Y := YX1_square) fF1001 (by decide) q201 (Or.inl rfl) dX1_square_1) (fun v1 => ?_)
  refine flp2 (go_ifnonnull (pc := 4) (Y := YX1_square) 13 dX1_square_4 (by decide)) ?_ ?_
  · refine im (go_aload_n (pc := 7) (Y := YX1_square) 0 dX1_square_7 rfl rfl) ?_
    refine im (go_iconst (pc := 8) (Y := YX1_square) (v := 1) dX1_square_8 rfl) ?_
    refine kdg (fun k2 => ?_)
    refine bdg (fun s3 v4 he5 => ?_)
    refine im (go_callV (pc := 9) (Y := YX1_square) (Yc := YX1_refused) (y := yX1_refused) (n := 1) (c0 := 0) (q := (RX1, TX1, 25)) this [iV 1] [] rfl rfl k2 (mX1_refused s0 he5) YOK_X1_refused rfl q288 q129 q287 qs0 q285 (Nat.le_of_ble_eq_true rfl) (Nat.le_of_ble_eq_true rfl) (Nat.le_of_ble_eq_true rfl) dX1_square_9 (st2 := [iV v4]) rfl) ?_
    clear he5
    refine e2 (fun q0 q1 => ?_)
    subst q0
    subst q1
    exact go_iret (pc := 12) (Y := YX1_square) rfl dX1_square_12
  · refine im (go_iconst (pc := 13) (Y := YX1_square) (v := 0) dX1_square_13 rfl) ?_
    refine im (go_istore_n (pc := 14) (Y := YX1_square) (ls2 := [(1, iV 0), (0, rV (some this))]) dX1_square_14 rfl (Nat.le_of_ble_eq_true rfl) rfl) ?_
    refine im (go_iconst (pc := 15) (Y := YX1_square) (v := -1) dX1_square_15 rfl) ?_
    refine im (go_istore_n (pc := 16) (Y := YX1_square) (ls2 := [(2, iV (-1)), (1, iV 0), (0, rV (some this))]) dX1_square_16 rfl (Nat.le_of_ble_eq_true rfl) rfl) ?_
    refine im (go_iconst (pc := 17) (Y := YX1_square) (v := 0) dX1_square_17 rfl) ?_
    refine im (go_istore_n (pc := 18) (Y := YX1_square) (ls2 := [(3, iV 0), (2, iV (-1)), (1, iV 0), (0, rV (some this))]) dX1_square_18 rfl (Nat.le_of_ble_eq_true rfl) rfl) ?_
    refine bpg (fun v34 he39 h40 => ?_)
    refine go_sub [3, 2, 1, 0] rfl (sX1_square_L19_go s0 this FU _ _ _ _ he39 ?_)
    clear he39
    revert h40
    refine im (go_aload_n (pc := 85) (Y := YX1_square) 0 dX1_square_85 rfl rfl) ?_
    refine im (go_iload_n (pc := 86) (Y := YX1_square) 1 dX1_square_86 rfl rfl) ?_
    refine kdg (fun k35 => ?_)
    refine bdg (fun s36 v37 he38 => ?_)
    refine im (go_callV (pc := 87) (Y := YX1_square) (Yc := YX1_well) (y := yX1_well) (n := 1) (c0 := 0) (q := (RX1, TX1, 25)) this [iV v34] [] rfl rfl k35 (mX1_well s0 he38) YOK_X1_well rfl q1102 q129 q1101 qs29 q1099 (Nat.le_of_ble_eq_true rfl) (Nat.le_of_ble_eq_true rfl) (Nat.le_of_ble_eq_true rfl) dX1_square_87 (st2 := [iV v37]) rfl) ?_
    clear he38
    refine e2 (fun q0 q1 => ?_)
    subst q0
    subst q1
    exact go_iret (pc := 90) (Y := YX1_square) rfl dX1_square_90
abbrev YX1_witOf : mY := (RX1, cX1_witOf, 3, (Option.some .int), 4, 85, false)
theorem YOK_X1_witOf : YOK yX1_witOf 1 := ⟨⟨by decide +kernel, by decide +kernel⟩, by decide +kernel⟩
theorem sX1_witOf_L2_go {G : gG} {s0 : St} {vE : Int32} (s1 : St) (this : Nat) (i1 : Int32) : ∀ (n : Nat) (v2 : Int32) (o : Int32 ⊕ (Unit)), sX1_witOf_L2 s1 this i1 n v2 = some o → (∀ r, o = .inl r → r = vE) → (∀ (_ : Unit), o = .inr () → Go G YX1_witOf s0 s1 (some (iV vE)) 55 [(0, rV (some this)), (1, iV i1)] [] s1) → Go G YX1_witOf s0 s1 (some (iV vE)) 2 [(0, rV (some this)), (1, iV i1), (2, iV v2)] [] s1 := by
  intro n
  induction n with
  | zero => intro v2 o h hr hx; rw [sX1_witOf_L2] at h; cases h
  | succ n ih =>
    intro v2 o h hr hx
    revert h
    rw [sX1_witOf_L2]
    refine im (go_iload_n (pc := 2) (Y := YX1_witOf) 2 dX1_witOf_2 rfl rfl) ?_
    refine im (go_aload_n (pc := 3) (Y := YX1_witOf) 0 dX1_witOf_3 rfl rfl) ?_
    refine flp (go_gR (pc := 4) (Y := YX1_witOf) fF1001 (by decide) q201 (Or.inl rfl) dX1_witOf_4) (fun v3 => ?_)
    refine flp (go_gI (pc := 7) (Y := YX1_witOf) fF52 (by decide) q327 (Or.inl rfl) dX1_witOf_7) (fun v4 => ?_)
    refine flp2 (go_icmp_ge (pc := 10) (Y := YX1_witOf) 55 dX1_witOf_10 (by decide)) ?_ ?_
    · refine eor (fun hq => ?_)
      exact go_sub [0, 1] rfl (hx () hq)
    · refine im (go_aload_n (pc := 13) (Y := YX1_witOf) 0 dX1_witOf_13 rfl rfl) ?_
      refine flp (go_gR (pc := 14) (Y := YX1_witOf) fF1001 (by decide) q201 (Or.inl rfl) dX1_witOf_14) (fun v5 => ?_)
      refine flp (go_gR (pc := 17) (Y := YX1_witOf) fF1028 (by decide) q346 (Or.inl rfl) dX1_witOf_17) (fun v6 => ?_)
      refine im (go_iload_n (pc := 20) (Y := YX1_witOf) 2 dX1_witOf_20 rfl rfl) ?_
      refine flp (go_lI1 (pc := 21) (Y := YX1_witOf) dX1_witOf_21) (fun v7 => ?_)
      refine im (go_iload_n (pc := 22) (Y := YX1_witOf) 1 dX1_witOf_22 rfl rfl) ?_
      refine flp2 (go_icmp_ne (pc := 23) (Y := YX1_witOf) 49 dX1_witOf_23 (by decide)) ?_ ?_
      · refine im (go_aload_n (pc := 26) (Y := YX1_witOf) 0 dX1_witOf_26 rfl rfl) ?_
        refine flp (go_gI (pc := 27) (Y := YX1_witOf) fF5 (by decide) q207 (Or.inl rfl) dX1_witOf_27) (fun v8 => ?_)
        refine im (go_iload_n (pc := 30) (Y := YX1_witOf) 2 dX1_witOf_30 rfl rfl) ?_
        refine bpg (fun v9 he10 => ?_)
        refine im (go_callS (pc := 31) (Y := YX1_witOf) (Yc := YX1_has) (y := yX1_has) (n := 2) [iV v8, iV v2] [] rfl (mX1_has s1 he10) YOK_X1_has rfl q1176 q129 q1175 q1174 (Nat.le_of_ble_eq_true rfl) (Nat.le_of_ble_eq_true rfl) (Nat.le_of_ble_eq_true rfl) dX1_witOf_31 (st2 := [iV v9]) rfl) ?_
        clear he10
        refine flp2 (go_if_eq (pc := 34) (Y := YX1_witOf) 49 dX1_witOf_34 (by decide)) ?_ ?_
        · refine im (go_iinc (pc := 49) (Y := YX1_witOf) 2 (v := (v2 + 1)) (ls2 := [(2, iV (v2 + 1)), (0, rV (some this)), (1, iV i1)]) dX1_witOf_49 rfl rfl (Nat.le_of_ble_eq_true rfl) rfl) ?_
          refine im (go_goto (pc := 52) (Y := YX1_witOf) 2 dX1_witOf_52 (by decide)) ?_
          exact fun hq => go_sub [1, 2, 0] rfl (ih _ _ hq hr hx)
        · refine im (go_aload_n (pc := 37) (Y := YX1_witOf) 0 dX1_witOf_37 rfl rfl) ?_
          refine flp (go_gR (pc := 38) (Y := YX1_witOf) fF1001 (by decide) q201 (Or.inl rfl) dX1_witOf_38) (fun v11 => ?_)
          refine im (go_iload_n (pc := 41) (Y := YX1_witOf) 1 dX1_witOf_41 rfl rfl) ?_
          refine ivg (fun w12 r13 k14 => ?_)
          refine bpg (fun v15 he16 => ?_)
          refine im (go_callV (pc := 42) (Y := YX1_witOf) (Yc := YX5_person) (y := yX5_person) (n := 1) (c0 := 5) (q := (RX5, TX5, 10)) w12 [iV i1] [] (by rw [r13]; rfl) rfl k14 (mX5_person s1 he16) YOK_X5_person rfl q986 q136 q984 q985 q1123 (Nat.le_of_ble_eq_true rfl) (Nat.le_of_ble_eq_true rfl) (Nat.le_of_ble_eq_true rfl) dX1_witOf_42 (st2 := [rV v15]) rfl) ?_
          clear he16
          refine flp (go_gI (pc := 45) (Y := YX1_witOf) fF67 (by decide) q904 (Or.inl rfl) dX1_witOf_45) (fun v17 => ?_)
          refine eor (fun hq => ?_)
          have hq2 := hr _ hq
          subst hq2
          exact go_iret (pc := 48) (Y := YX1_witOf) rfl dX1_witOf_48
      · refine im (go_iinc (pc := 49) (Y := YX1_witOf) 2 (v := (v2 + 1)) (ls2 := [(2, iV (v2 + 1)), (0, rV (some this)), (1, iV i1)]) dX1_witOf_49 rfl rfl (Nat.le_of_ble_eq_true rfl) rfl) ?_
        refine im (go_goto (pc := 52) (Y := YX1_witOf) 2 dX1_witOf_52 (by decide)) ?_
        exact fun hq => go_sub [1, 2, 0] rfl (ih _ _ hq hr hx)
theorem mX1_witOf {G : gG} (s0 : St) {this : Nat} {p0 : Int32} {vE : Int32} (h : sX1_witOf s0 this p0 = some vE) : Mt G YX1_witOf yX1_witOf [rV (some this), iV p0] s0 (some (iV vE)) s0 := by
  refine go_start (ls0 := [(0, rV (some this)), (1, iV p0)]) (by decide +kernel) rfl (fun h => by cases h) (Nat.le_of_ble_eq_true rfl) rfl ?_
  revert h
  unfold sX1_witOf
  refine im (go_iconst (pc := 0) (Y := YX1_witOf) (v := 0) dX1_witOf_0 rfl) ?_
  refine im (go_istore_n (pc := 1) (Y := YX1_witOf) (ls2 := [(2, iV 0), (0, rV (some this)), (1, iV p0)]) dX1_witOf_1 rfl (Nat.le_of_ble_eq_true rfl) rfl) ?_
  refine lcg (fun o28 he25 h26 => ?_)
  refine go_sub [1, 2, 0] rfl (sX1_witOf_L2_go s0 this p0 FU _ _ he25 h26.1 (fun _ hq => ?_))
  have hw := h26.2 () hq
  clear he25
  revert hw
  refine im (go_aload_n (pc := 55) (Y := YX1_witOf) 0 dX1_witOf_55 rfl rfl) ?_
  refine flp (go_gR (pc := 56) (Y := YX1_witOf) fF1001 (by decide) q201 (Or.inl rfl) dX1_witOf_56) (fun v18 => ?_)
  refine im (go_iload_n (pc := 59) (Y := YX1_witOf) 1 dX1_witOf_59 rfl rfl) ?_
  refine ivg (fun w19 r20 k21 => ?_)
  refine bpg (fun v22 he23 => ?_)
  refine im (go_callV (pc := 60) (Y := YX1_witOf) (Yc := YX5_person) (y := yX5_person) (n := 1) (c0 := 5) (q := (RX5, TX5, 10)) w19 [iV p0] [] (by rw [r20]; rfl) rfl k21 (mX5_person s0 he23) YOK_X5_person rfl q986 q136 q984 q985 q1123 (Nat.le_of_ble_eq_true rfl) (Nat.le_of_ble_eq_true rfl) (Nat.le_of_ble_eq_true rfl) dX1_witOf_60 (st2 := [rV v22]) rfl) ?_
  clear he23
  refine flp (go_gI (pc := 63) (Y := YX1_witOf) fF66 (by decide) q902 (Or.inl rfl) dX1_witOf_63) (fun v24 => ?_)
  refine e1 (fun q0 => ?_)
  subst q0
  exact go_iret (pc := 66) (Y := YX1_witOf) rfl dX1_witOf_66
abbrev YX1_drawOf : mY := (RX1, cX1_drawOf, 1, (Option.some .int), 0, 0, false)
theorem YOK_X1_drawOf : YOK yX1_drawOf 1 := ⟨⟨by decide +kernel, by decide +kernel⟩, by decide +kernel⟩
theorem mX1_drawOf {G : gG} (s0 : St) {p0 : Int32} {vE : Int32} (h : sX1_drawOf s0 p0 = some vE) : Mt G YX1_drawOf yX1_drawOf [iV p0] s0 (some (iV vE)) s0 := by
  refine go_start (ls0 := [(0, iV p0)]) (by decide +kernel) rfl (fun h => by cases h) (Nat.le_of_ble_eq_true rfl) rfl ?_
  revert h
  unfold sX1_drawOf
  refine im (go_ldc2 (pc := 0) (Y := YX1_drawOf) (v := 75) dX1_drawOf_0 q1278) ?_
  refine im (go_iload_n (pc := 3) (Y := YX1_drawOf) 0 dX1_drawOf_3 rfl rfl) ?_
  refine im (go_i2l (pc := 4) (Y := YX1_drawOf) dX1_drawOf_4) ?_
  refine im (go_lmul (pc := 5) (Y := YX1_drawOf) dX1_drawOf_5) ?_
  refine im (go_ldc2 (pc := 6) (Y := YX1_drawOf) (v := 74) dX1_drawOf_6 q1279) ?_
  refine im (go_ladd (pc := 9) (Y := YX1_drawOf) dX1_drawOf_9) ?_
  refine im (go_ldc2 (pc := 10) (Y := YX1_drawOf) (v := 65537) dX1_drawOf_10 q1280) ?_
  refine flp (go_lrem (pc := 13) (Y := YX1_drawOf) dX1_drawOf_13) (fun h => ?_)
  revert h
  refine im (go_l2i (pc := 14) (Y := YX1_drawOf) dX1_drawOf_14) ?_
  refine e1 (fun q0 => ?_)
  subst q0
  exact go_iret (pc := 15) (Y := YX1_drawOf) rfl dX1_drawOf_15
abbrev YX1_brawls : mY := (RX1, cX1_brawls, 10, (Option.some .int), 6, 132, false)
theorem YOK_X1_brawls : YOK yX1_brawls 4 := ⟨⟨by decide +kernel, by decide +kernel⟩, by decide +kernel⟩
theorem sX1_brawls_L189_go {G : gG} {s0 sE : St} {rE : Option V3} (this : Nat) (i8 : Int32) : ∀ (n : Nat) (s48 : St) (v49 : Int32) (s50 : St), sX1_brawls_L189 this i8 n s48 v49 = some s50 → Go G YX1_brawls s0 sE rE 216 [] [] s50 → Go G YX1_brawls s0 sE rE 189 [(0, rV (some this)), (8, iV i8), (9, iV v49)] [] s48 := by
  intro n
  induction n with
  | zero => intro s48 v49 s50 h hx; rw [sX1_brawls_L189] at h; cases h
  | succ n ih =>
    intro s48 v49 s50 h hx
    revert h
    rw [sX1_brawls_L189]
    refine im (go_iload (pc := 189) (Y := YX1_brawls) 2 dX1_brawls_189 rfl) ?_
    refine flp2 (go_if_lt (pc := 191) (Y := YX1_brawls) 216 dX1_brawls_191 (by decide)) ?_ ?_
    · refine e1 (fun q0 => ?_)
      subst q0
      exact go_sub [] rfl hx
    · refine im (go_iload (pc := 194) (Y := YX1_brawls) 1 dX1_brawls_194 rfl) ?_
      refine im (go_iload (pc := 196) (Y := YX1_brawls) 2 dX1_brawls_196 rfl) ?_
      refine bpg (fun v51 he52 => ?_)
      refine im (go_callS (pc := 198) (Y := YX1_brawls) (Yc := YX1_has) (y := yX1_has) (n := 2) [iV i8, iV v49] [] rfl (mX1_has s48 he52) YOK_X1_has rfl q1176 q129 q1175 q1174 (Nat.le_of_ble_eq_true rfl) (Nat.le_of_ble_eq_true rfl) (Nat.le_of_ble_eq_true rfl) dX1_brawls_198 (st2 := [iV v51]) rfl) ?_
      clear he52
      refine bpg (fun s53 he55 h56 => ?_)
      have hj210 : Go G YX1_brawls s0 sE rE 210 [(0, rV (some this)), (8, iV i8), (9, iV v49)] [] s53 := by
        clear he55
        revert h56
        refine im (go_iinc (pc := 210) (Y := YX1_brawls) 2 (v := (v49 + (-1))) (ls2 := [(9, iV (v49 + (-1))), (0, rV (some this)), (8, iV i8)]) dX1_brawls_210 rfl rfl (Nat.le_of_ble_eq_true rfl) rfl) ?_
        refine im (go_goto (pc := 213) (Y := YX1_brawls) 189 dX1_brawls_213 (by decide)) ?_
        exact fun hq => go_sub [1, 2, 0] rfl (ih _ _ _ hq hx)
      clear h56
      revert he55
      refine flp2 (go_if_eq (pc := 201) (Y := YX1_brawls) 210 dX1_brawls_201 (by decide)) ?_ ?_
      · refine e1 (fun q0 => ?_)
        subst q0
        exact go_sub [0, 1, 2] rfl hj210
      · refine im (go_aload_n (pc := 204) (Y := YX1_brawls) 0 dX1_brawls_204 rfl rfl) ?_
        refine im (go_iload (pc := 205) (Y := YX1_brawls) 2 dX1_brawls_205 rfl) ?_
        refine flp (go_pI (pc := 207) (Y := YX1_brawls) fF10 (by decide) q212 (Or.inl rfl) (Or.inl rfl) rfl rfl rfl dX1_brawls_207) (fun s54 => ?_)
        refine e1 (fun q0 => ?_)
        subst q0
        exact go_sub [0, 1, 2] rfl hj210
theorem sX1_brawls_L56_go {G : gG} {s0 : St} {sE : St} {vE : Int32} (this : Nat) (i1 : Option Nat) (i3 : Int32) (i5 : Option Nat) (i6 : Int32) : ∀ (n : Nat) (s19 : St) (v20 : Int32) (o : (St × Int32) ⊕ (St)), sX1_brawls_L56 this i1 i3 i5 i6 n s19 v20 = some o → (∀ r, o = .inl r → r = (sE, vE)) → (∀ (s21 : St), o = .inr s21 → Go G YX1_brawls s0 sE (some (iV vE)) 263 [(0, rV (some this))] [] s21) → Go G YX1_brawls s0 sE (some (iV vE)) 56 [(0, rV (some this)), (1, rV i1), (3, iV i3), (5, rV i5), (6, iV i6), (7, iV v20)] [] s19 := by
  intro n
  induction n with
  | zero => intro s19 v20 o h hr hx; rw [sX1_brawls_L56] at h; cases h
  | succ n ih =>
    intro s19 v20 o h hr hx
    revert h
    rw [sX1_brawls_L56]
    refine im (go_iload (pc := 56) (Y := YX1_brawls) 5 dX1_brawls_56 rfl) ?_
    refine im (go_bipush (pc := 58) (Y := YX1_brawls) (v := 59) dX1_brawls_58 rfl) ?_
    refine flp2 (go_icmp_gt (pc := 60) (Y := YX1_brawls) 263 dX1_brawls_60 (by decide)) ?_ ?_
    · refine eor (fun hq => ?_)
      exact go_sub [0] rfl (hx _ hq)
    · refine im (go_aload_n (pc := 63) (Y := YX1_brawls) 1 dX1_brawls_63 rfl rfl) ?_
      refine im (go_iload_n (pc := 64) (Y := YX1_brawls) 2 dX1_brawls_64 rfl rfl) ?_
      refine im (go_iload (pc := 65) (Y := YX1_brawls) 5 dX1_brawls_65 rfl) ?_
      refine ivg (fun w22 r23 k24 => ?_)
      refine bpg (fun v25 he26 => ?_)
      refine im (go_callV (pc := 67) (Y := YX1_brawls) (Yc := YX14_watchers) (y := yX14_watchers) (n := 2) (c0 := 16) (q := (RX14, TX14, 4)) w22 [iV i3, iV v20] [] (by rw [r23]; rfl) rfl k24 (mX14_watchers s19 he26) YOK_X14_watchers rfl q1229 q156 q1227 q1228 q1226 (Nat.le_of_ble_eq_true rfl) (Nat.le_of_ble_eq_true rfl) (Nat.le_of_ble_eq_true rfl) dX1_brawls_67 (st2 := [iV v25]) rfl) ?_
      clear he26
      refine im (go_iconst (pc := 70) (Y := YX1_brawls) (v := 1) dX1_brawls_70 rfl) ?_
      refine im (go_aload (pc := 71) (Y := YX1_brawls) 3 dX1_brawls_71 rfl) ?_
      refine flp (go_gI (pc := 73) (Y := YX1_brawls) fF71 (by decide) q999 (Or.inl rfl) dX1_brawls_73) (fun v27 => ?_)
      refine im (go_ishl (pc := 76) (Y := YX1_brawls) dX1_brawls_76) ?_
      refine im (go_iconst (pc := 77) (Y := YX1_brawls) (v := -1) dX1_brawls_77 rfl) ?_
      refine im (go_ixor (pc := 78) (Y := YX1_brawls) dX1_brawls_78) ?_
      refine im (go_iand (pc := 79) (Y := YX1_brawls) dX1_brawls_79) ?_
      refine im (go_iconst (pc := 80) (Y := YX1_brawls) (v := 1) dX1_brawls_80 rfl) ?_
      refine im (go_aload (pc := 81) (Y := YX1_brawls) 3 dX1_brawls_81 rfl) ?_
      refine flp (go_gI (pc := 83) (Y := YX1_brawls) fF72 (by decide) q1001 (Or.inl rfl) dX1_brawls_83) (fun v28 => ?_)
      refine im (go_ishl (pc := 86) (Y := YX1_brawls) dX1_brawls_86) ?_
      refine im (go_iconst (pc := 87) (Y := YX1_brawls) (v := -1) dX1_brawls_87 rfl) ?_
      refine im (go_ixor (pc := 88) (Y := YX1_brawls) dX1_brawls_88) ?_
      refine im (go_iand (pc := 89) (Y := YX1_brawls) dX1_brawls_89) ?_
      refine im (go_aload_n (pc := 90) (Y := YX1_brawls) 0 dX1_brawls_90 rfl rfl) ?_
      refine flp (go_gI (pc := 91) (Y := YX1_brawls) fF9 (by decide) q211 (Or.inl rfl) dX1_brawls_91) (fun v29 => ?_)
      refine im (go_iconst (pc := 94) (Y := YX1_brawls) (v := -1) dX1_brawls_94 rfl) ?_
      refine im (go_ixor (pc := 95) (Y := YX1_brawls) dX1_brawls_95) ?_
      refine im (go_iand (pc := 96) (Y := YX1_brawls) dX1_brawls_96) ?_
      refine im (go_istore (pc := 97) (Y := YX1_brawls) (ls2 := [(8, iV (((v25 &&& (((1 : Int32) <<< (v27 &&& 31)) ^^^ (-1))) &&& (((1 : Int32) <<< (v28 &&& 31)) ^^^ (-1))) &&& (v29 ^^^ (-1)))), (0, rV (some this)), (1, rV i1), (3, iV i3), (5, rV i5), (6, iV i6), (7, iV v20)]) dX1_brawls_97 (Nat.le_of_ble_eq_true rfl) rfl) ?_
      refine im (go_aload_n (pc := 99) (Y := YX1_brawls) 1 dX1_brawls_99 rfl rfl) ?_
      refine im (go_dup (pc := 100) (Y := YX1_brawls) dX1_brawls_100 rfl) ?_
      refine flp (go_gI (pc := 101) (Y := YX1_brawls) fF9 (by decide) q211 (Or.inl rfl) dX1_brawls_101) (fun v30 => ?_)
      refine im (go_iload (pc := 104) (Y := YX1_brawls) 0 dX1_brawls_104 rfl) ?_
      refine im (go_ior (pc := 106) (Y := YX1_brawls) dX1_brawls_106) ?_
      refine flp (go_pI (pc := 107) (Y := YX1_brawls) fF9 (by decide) q211 (Or.inl rfl) (Or.inl rfl) rfl rfl rfl dX1_brawls_107) (fun s31 => ?_)
      refine im (go_aload_n (pc := 110) (Y := YX1_brawls) 1 dX1_brawls_110 rfl rfl) ?_
      refine flp (go_gI (pc := 111) (Y := YX1_brawls) fF12 (by decide) q214 (Or.inl rfl) dX1_brawls_111) (fun v32 => ?_)
      refine bpg (fun s33 he69 h70 => ?_)
      have hj155 : Go G YX1_brawls s0 sE (some (iV vE)) 155 [(0, rV (some this)), (1, rV i1), (3, iV i3), (5, rV i5), (6, iV i6), (7, iV v20), (8, iV (((v25 &&& (((1 : Int32) <<< (v27 &&& 31)) ^^^ (-1))) &&& (((1 : Int32) <<< (v28 &&& 31)) ^^^ (-1))) &&& (v29 ^^^ (-1))))] [] s33 := by
        clear he69
        revert h70
        refine im (go_aload_n (pc := 155) (Y := YX1_brawls) 0 dX1_brawls_155 rfl rfl) ?_
        refine im (go_iload (pc := 156) (Y := YX1_brawls) 5 dX1_brawls_156 rfl) ?_
        refine flp (go_pI (pc := 158) (Y := YX1_brawls) fF7 (by decide) q209 (Or.inl rfl) (Or.inl rfl) rfl rfl rfl dX1_brawls_158) (fun s34 => ?_)
        refine im (go_aload_n (pc := 161) (Y := YX1_brawls) 0 dX1_brawls_161 rfl rfl) ?_
        refine im (go_aload_n (pc := 162) (Y := YX1_brawls) 0 dX1_brawls_162 rfl rfl) ?_
        refine flp (go_gI (pc := 163) (Y := YX1_brawls) fF9 (by decide) q211 (Or.inl rfl) dX1_brawls_163) (fun v35 => ?_)
        refine kdg (fun k36 => ?_)
        refine bpg (fun v37 he38 => ?_)
        refine im (go_callV (pc := 166) (Y := YX1_brawls) (Yc := YX1_eyesOfAll) (y := yX1_eyesOfAll) (n := 1) (c0 := 0) (q := (RX1, TX1, 25)) this [iV v35] [] rfl rfl k36 (mX1_eyesOfAll s34 he38) YOK_X1_eyesOfAll rfl q1242 q129 q1241 qs39 q1239 (Nat.le_of_ble_eq_true rfl) (Nat.le_of_ble_eq_true rfl) (Nat.le_of_ble_eq_true rfl) dX1_brawls_166 (st2 := [iV v37]) rfl) ?_
        clear he38
        refine im (go_iconst (pc := 169) (Y := YX1_brawls) (v := 2) dX1_brawls_169 rfl) ?_
        refine im (go_aload_n (pc := 170) (Y := YX1_brawls) 0 dX1_brawls_170 rfl rfl) ?_
        refine flp (go_gI (pc := 171) (Y := YX1_brawls) fF6 (by decide) q208 (Or.inl rfl) dX1_brawls_171) (fun v39 => ?_)
        refine im (go_imul (pc := 174) (Y := YX1_brawls) dX1_brawls_174) ?_
        refine im (go_iadd (pc := 175) (Y := YX1_brawls) dX1_brawls_175) ?_
        refine im (go_bipush (pc := 176) (Y := YX1_brawls) (v := 6) dX1_brawls_176 rfl) ?_
        refine flp2 (go_icmp_lt (pc := 178) (Y := YX1_brawls) 218 dX1_brawls_178 (by decide)) ?_ ?_
        · refine im (go_aload_n (pc := 218) (Y := YX1_brawls) 0 dX1_brawls_218 rfl rfl) ?_
          refine im (go_dup (pc := 219) (Y := YX1_brawls) dX1_brawls_219 rfl) ?_
          refine flp (go_gI (pc := 220) (Y := YX1_brawls) fF8 (by decide) q210 (Or.inl rfl) dX1_brawls_220) (fun v40 => ?_)
          refine im (go_iload (pc := 223) (Y := YX1_brawls) 4 dX1_brawls_223 rfl) ?_
          refine im (go_iadd (pc := 225) (Y := YX1_brawls) dX1_brawls_225) ?_
          refine flp (go_pI (pc := 226) (Y := YX1_brawls) fF8 (by decide) q210 (Or.inl rfl) (Or.inl rfl) rfl rfl rfl dX1_brawls_226) (fun s41 => ?_)
          refine im (go_aload_n (pc := 229) (Y := YX1_brawls) 0 dX1_brawls_229 rfl rfl) ?_
          refine flp (go_gI (pc := 230) (Y := YX1_brawls) fF8 (by decide) q210 (Or.inl rfl) dX1_brawls_230) (fun v42 => ?_)
          refine im (go_abs (pc := 233) (Y := YX1_brawls) q1281 q1282 q143 q1283 (Nat.le_of_ble_eq_true rfl) (Nat.le_of_ble_eq_true rfl) dX1_brawls_233) ?_
          refine im (go_aload (pc := 236) (Y := YX1_brawls) 3 dX1_brawls_236 rfl) ?_
          refine flp (go_gI (pc := 238) (Y := YX1_brawls) fF75 (by decide) q1007 (Or.inl rfl) dX1_brawls_238) (fun v43 => ?_)
          refine flp2 (go_icmp_lt (pc := 241) (Y := YX1_brawls) 257 dX1_brawls_241 (by decide)) ?_ ?_
          · refine im (go_iinc (pc := 257) (Y := YX1_brawls) 5 (v := (v20 + 1)) (ls2 := [(7, iV (v20 + 1)), (0, rV (some this)), (1, rV i1), (3, iV i3), (5, rV i5), (6, iV i6), (8, iV (((v25 &&& (((1 : Int32) <<< (v27 &&& 31)) ^^^ (-1))) &&& (((1 : Int32) <<< (v28 &&& 31)) ^^^ (-1))) &&& (v29 ^^^ (-1))))]) dX1_brawls_257 rfl rfl (Nat.le_of_ble_eq_true rfl) rfl) ?_
            refine im (go_goto (pc := 260) (Y := YX1_brawls) 56 dX1_brawls_260 (by decide)) ?_
            exact fun hq => go_sub [1, 2, 3, 4, 5, 0] rfl (ih _ _ _ hq hr hx)
          · refine im (go_aload_n (pc := 244) (Y := YX1_brawls) 0 dX1_brawls_244 rfl rfl) ?_
            refine flp (go_gI (pc := 245) (Y := YX1_brawls) fF8 (by decide) q210 (Or.inl rfl) dX1_brawls_245) (fun v44 => ?_)
            refine flp2 (go_if_le (pc := 248) (Y := YX1_brawls) 255 dX1_brawls_248 (by decide)) ?_ ?_
            · refine im (go_iconst (pc := 255) (Y := YX1_brawls) (v := 2) dX1_brawls_255 rfl) ?_
              refine eor (fun hq => ?_)
              have hq2 := hr _ hq
              obtain ⟨q0, q1⟩ := Prod.mk.inj hq2
              subst q0
              subst q1
              exact go_iret (pc := 256) (Y := YX1_brawls) rfl dX1_brawls_256
            · refine im (go_iconst (pc := 251) (Y := YX1_brawls) (v := 1) dX1_brawls_251 rfl) ?_
              refine im (go_goto (pc := 252) (Y := YX1_brawls) 256 dX1_brawls_252 (by decide)) ?_
              refine eor (fun hq => ?_)
              have hq2 := hr _ hq
              obtain ⟨q0, q1⟩ := Prod.mk.inj hq2
              subst q0
              subst q1
              exact go_iret (pc := 256) (Y := YX1_brawls) rfl dX1_brawls_256
        · refine im (go_aload_n (pc := 181) (Y := YX1_brawls) 0 dX1_brawls_181 rfl rfl) ?_
          refine kdg (fun k45 => ?_)
          refine bpg (fun v46 he47 => ?_)
          refine im (go_callV (pc := 182) (Y := YX1_brawls) (Yc := YX1_people) (y := yX1_people) (n := 0) (c0 := 0) (q := (RX1, TX1, 25)) this [] [] rfl rfl k45 (mX1_people s34 he47) YOK_X1_people rfl q1122 q129 q1121 qs31 q1119 (Nat.le_of_ble_eq_true rfl) (Nat.le_of_ble_eq_true rfl) (Nat.le_of_ble_eq_true rfl) dX1_brawls_182 (st2 := [iV v46]) rfl) ?_
          clear he47
          refine im (go_iconst (pc := 185) (Y := YX1_brawls) (v := 1) dX1_brawls_185 rfl) ?_
          refine im (go_isub (pc := 186) (Y := YX1_brawls) dX1_brawls_186) ?_
          refine im (go_istore (pc := 187) (Y := YX1_brawls) (ls2 := [(9, iV (v46 - 1)), (0, rV (some this)), (1, rV i1), (3, iV i3), (5, rV i5), (6, iV i6), (7, iV v20), (8, iV (((v25 &&& (((1 : Int32) <<< (v27 &&& 31)) ^^^ (-1))) &&& (((1 : Int32) <<< (v28 &&& 31)) ^^^ (-1))) &&& (v29 ^^^ (-1))))]) dX1_brawls_187 (Nat.le_of_ble_eq_true rfl) rfl) ?_
          refine bpg (fun s57 he58 h59 => ?_)
          refine go_sub [1, 7, 0] rfl (sX1_brawls_L189_go this (((v25 &&& (((1 : Int32) <<< (v27 &&& 31)) ^^^ (-1))) &&& (((1 : Int32) <<< (v28 &&& 31)) ^^^ (-1))) &&& (v29 ^^^ (-1))) FU _ _ _ he58 ?_)
          clear he58
          revert h59
          refine im (go_iconst (pc := 216) (Y := YX1_brawls) (v := 0) dX1_brawls_216 rfl) ?_
          refine eor (fun hq => ?_)
          have hq2 := hr _ hq
          obtain ⟨q0, q1⟩ := Prod.mk.inj hq2
          subst q0
          subst q1
          exact go_iret (pc := 217) (Y := YX1_brawls) rfl dX1_brawls_217
      clear h70
      revert he69
      refine flp2 (go_if_eq (pc := 114) (Y := YX1_brawls) 155 dX1_brawls_114 (by decide)) ?_ ?_
      · refine e1 (fun q0 => ?_)
        subst q0
        exact go_sub [1, 2, 3, 4, 5, 6, 0] rfl hj155
      · refine im (go_aload_n (pc := 117) (Y := YX1_brawls) 1 dX1_brawls_117 rfl rfl) ?_
        refine im (go_aload_n (pc := 118) (Y := YX1_brawls) 1 dX1_brawls_118 rfl rfl) ?_
        refine flp (go_gI (pc := 119) (Y := YX1_brawls) fF11 (by decide) q213 (Or.inl rfl) dX1_brawls_119) (fun v60 => ?_)
        refine bpg (fun v61 he62 => ?_)
        refine im (go_callS (pc := 122) (Y := YX1_brawls) (Yc := YX1_drawOf) (y := yX1_drawOf) (n := 1) [iV v60] [rV (some this)] rfl (mX1_drawOf s31 he62) YOK_X1_drawOf rfl q1277 q129 q1276 q1275 (Nat.le_of_ble_eq_true rfl) (Nat.le_of_ble_eq_true rfl) (Nat.le_of_ble_eq_true rfl) dX1_brawls_122 (st2 := [iV v61, rV (some this)]) rfl) ?_
        clear he62
        refine flp (go_pI (pc := 125) (Y := YX1_brawls) fF11 (by decide) q213 (Or.inl rfl) (Or.inl rfl) rfl rfl rfl dX1_brawls_125) (fun s63 => ?_)
        refine im (go_aload_n (pc := 128) (Y := YX1_brawls) 1 dX1_brawls_128 rfl rfl) ?_
        refine flp (go_gI (pc := 129) (Y := YX1_brawls) fF11 (by decide) q213 (Or.inl rfl) dX1_brawls_129) (fun v64 => ?_)
        refine im (go_bipush (pc := 132) (Y := YX1_brawls) (v := 100) dX1_brawls_132 rfl) ?_
        refine flp (go_irem (pc := 134) (Y := YX1_brawls) dX1_brawls_134) (fun h => ?_)
        revert h
        refine im (go_aload_n (pc := 135) (Y := YX1_brawls) 1 dX1_brawls_135 rfl rfl) ?_
        refine flp (go_gR (pc := 136) (Y := YX1_brawls) fF1001 (by decide) q201 (Or.inl rfl) dX1_brawls_136) (fun v65 => ?_)
        refine flp (go_gI (pc := 139) (Y := YX1_brawls) fF49 (by decide) q321 (Or.inl rfl) dX1_brawls_139) (fun v66 => ?_)
        refine flp2 (go_icmp_ge (pc := 142) (Y := YX1_brawls) 155 dX1_brawls_142 (by decide)) ?_ ?_
        · refine e1 (fun q0 => ?_)
          subst q0
          exact go_sub [1, 2, 3, 4, 5, 6, 0] rfl hj155
        · refine im (go_aload_n (pc := 145) (Y := YX1_brawls) 1 dX1_brawls_145 rfl rfl) ?_
          refine im (go_dup (pc := 146) (Y := YX1_brawls) dX1_brawls_146 rfl) ?_
          refine flp (go_gI (pc := 147) (Y := YX1_brawls) fF6 (by decide) q208 (Or.inl rfl) dX1_brawls_147) (fun v67 => ?_)
          refine im (go_iconst (pc := 150) (Y := YX1_brawls) (v := 1) dX1_brawls_150 rfl) ?_
          refine im (go_iadd (pc := 151) (Y := YX1_brawls) dX1_brawls_151) ?_
          refine flp (go_pI (pc := 152) (Y := YX1_brawls) fF6 (by decide) q208 (Or.inl rfl) (Or.inl rfl) rfl rfl rfl dX1_brawls_152) (fun s68 => ?_)
          refine e1 (fun q0 => ?_)
          subst q0
          exact go_sub [1, 2, 3, 4, 5, 6, 0] rfl hj155
theorem mX1_brawls {G : gG} (s0 : St) {this : Nat} {p0 : Option Nat} {p1 : Int32} {p2 : Int32} {p3 : Int32} {sE : St} {vE : Int32} (h : sX1_brawls s0 this p0 p1 p2 p3 = some (sE, vE)) : Mt G YX1_brawls yX1_brawls [rV (some this), rV p0, iV p1, iV p2, iV p3] s0 (some (iV vE)) sE := by
  refine go_start (ls0 := [(0, rV (some this)), (1, rV p0), (2, iV p1), (3, iV p2), (4, iV p3)]) (by decide +kernel) rfl (fun h => by cases h) (Nat.le_of_ble_eq_true rfl) rfl ?_
  revert h
  unfold sX1_brawls
  refine im (go_aload_n (pc := 0) (Y := YX1_brawls) 0 dX1_brawls_0 rfl rfl) ?_
  refine flp (go_gR (pc := 1) (Y := YX1_brawls) fF1001 (by decide) q201 (Or.inl rfl) dX1_brawls_1) (fun v1 => ?_)
  refine im (go_iload_n (pc := 4) (Y := YX1_brawls) 2 dX1_brawls_4 rfl rfl) ?_
  refine ivg (fun w2 r3 k4 => ?_)
  refine bpg (fun v5 he6 => ?_)
  refine im (go_callV (pc := 5) (Y := YX1_brawls) (Yc := YX5_quarrel) (y := yX5_quarrel) (n := 1) (c0 := 5) (q := (RX5, TX5, 10)) w2 [iV p1] [] (by rw [r3]; rfl) rfl k4 (mX5_quarrel s0 he6) YOK_X5_quarrel rfl q1043 q136 q1041 q1042 q1159 (Nat.le_of_ble_eq_true rfl) (Nat.le_of_ble_eq_true rfl) (Nat.le_of_ble_eq_true rfl) dX1_brawls_5 (st2 := [rV v5]) rfl) ?_
  clear he6
  refine im (go_astore (pc := 8) (Y := YX1_brawls) (ls2 := [(5, rV v5), (0, rV (some this)), (1, rV p0), (2, iV p1), (3, iV p2), (4, iV p3)]) dX1_brawls_8 (Nat.le_of_ble_eq_true rfl) rfl) ?_
  refine im (go_aload_n (pc := 10) (Y := YX1_brawls) 1 dX1_brawls_10 rfl rfl) ?_
  refine im (go_aload (pc := 11) (Y := YX1_brawls) 0 dX1_brawls_11 rfl) ?_
  refine flp (go_gI (pc := 13) (Y := YX1_brawls) fF71 (by decide) q999 (Or.inl rfl) dX1_brawls_13) (fun v7 => ?_)
  refine kdg (fun k8 => ?_)
  refine bpg (fun v9 he10 => ?_)
  refine im (go_callV (pc := 16) (Y := YX1_brawls) (Yc := YX1_witOf) (y := yX1_witOf) (n := 1) (c0 := 0) (q := (RX1, TX1, 25)) this [iV v7] [] rfl rfl k8 (mX1_witOf s0 he10) YOK_X1_witOf rfl q1274 q129 q1273 qs44 q1271 (Nat.le_of_ble_eq_true rfl) (Nat.le_of_ble_eq_true rfl) (Nat.le_of_ble_eq_true rfl) dX1_brawls_16 (st2 := [iV v9]) rfl) ?_
  clear he10
  refine im (go_aload_n (pc := 19) (Y := YX1_brawls) 1 dX1_brawls_19 rfl rfl) ?_
  refine im (go_aload (pc := 20) (Y := YX1_brawls) 0 dX1_brawls_20 rfl) ?_
  refine flp (go_gI (pc := 22) (Y := YX1_brawls) fF72 (by decide) q1001 (Or.inl rfl) dX1_brawls_22) (fun v11 => ?_)
  refine kdg (fun k12 => ?_)
  refine bpg (fun v13 he14 => ?_)
  refine im (go_callV (pc := 25) (Y := YX1_brawls) (Yc := YX1_witOf) (y := yX1_witOf) (n := 1) (c0 := 0) (q := (RX1, TX1, 25)) this [iV v11] [iV v9] rfl rfl k12 (mX1_witOf s0 he14) YOK_X1_witOf rfl q1274 q129 q1273 qs44 q1271 (Nat.le_of_ble_eq_true rfl) (Nat.le_of_ble_eq_true rfl) (Nat.le_of_ble_eq_true rfl) dX1_brawls_25 (st2 := [iV v13, iV v9]) rfl) ?_
  clear he14
  refine im (go_isub (pc := 28) (Y := YX1_brawls) dX1_brawls_28) ?_
  refine im (go_istore (pc := 29) (Y := YX1_brawls) (ls2 := [(6, iV (v9 - v13)), (5, rV v5), (0, rV (some this)), (1, rV p0), (2, iV p1), (3, iV p2), (4, iV p3)]) dX1_brawls_29 (Nat.le_of_ble_eq_true rfl) rfl) ?_
  refine im (go_aload_n (pc := 31) (Y := YX1_brawls) 2 dX1_brawls_31 rfl rfl) ?_
  refine im (go_iconst (pc := 32) (Y := YX1_brawls) (v := 0) dX1_brawls_32 rfl) ?_
  refine flp (go_pI (pc := 33) (Y := YX1_brawls) fF9 (by decide) q211 (Or.inl rfl) (Or.inl rfl) rfl rfl rfl dX1_brawls_33) (fun s15 => ?_)
  refine im (go_aload_n (pc := 36) (Y := YX1_brawls) 2 dX1_brawls_36 rfl rfl) ?_
  refine im (go_iconst (pc := 37) (Y := YX1_brawls) (v := 0) dX1_brawls_37 rfl) ?_
  refine flp (go_pI (pc := 38) (Y := YX1_brawls) fF8 (by decide) q210 (Or.inl rfl) (Or.inl rfl) rfl rfl rfl dX1_brawls_38) (fun s16 => ?_)
  refine im (go_aload_n (pc := 41) (Y := YX1_brawls) 2 dX1_brawls_41 rfl rfl) ?_
  refine im (go_bipush (pc := 42) (Y := YX1_brawls) (v := -2) dX1_brawls_42 rfl) ?_
  refine flp (go_pI (pc := 44) (Y := YX1_brawls) fF10 (by decide) q212 (Or.inl rfl) (Or.inl rfl) rfl rfl rfl dX1_brawls_44) (fun s17 => ?_)
  refine im (go_aload_n (pc := 47) (Y := YX1_brawls) 2 dX1_brawls_47 rfl rfl) ?_
  refine im (go_iconst (pc := 48) (Y := YX1_brawls) (v := 0) dX1_brawls_48 rfl) ?_
  refine flp (go_pI (pc := 49) (Y := YX1_brawls) fF6 (by decide) q208 (Or.inl rfl) (Or.inl rfl) rfl rfl rfl dX1_brawls_49) (fun s18 => ?_)
  refine im (go_iload (pc := 52) (Y := YX1_brawls) 6 dX1_brawls_52 rfl) ?_
  refine im (go_istore (pc := 54) (Y := YX1_brawls) (ls2 := [(7, iV p3), (6, iV (v9 - v13)), (5, rV v5), (0, rV (some this)), (1, rV p0), (2, iV p1), (3, iV p2), (4, iV p3)]) dX1_brawls_54 (Nat.le_of_ble_eq_true rfl) rfl) ?_
  refine lcg (fun o75 he73 h74 => ?_)
  refine go_sub [3, 4, 6, 2, 1, 0] rfl (sX1_brawls_L56_go this p0 p2 v5 (v9 - v13) FU _ _ _ he73 h74.1 (fun s71 hq => ?_))
  have hw := h74.2 s71 hq
  clear he73
  revert hw
  refine im (go_aload_n (pc := 263) (Y := YX1_brawls) 0 dX1_brawls_263 rfl rfl) ?_
  refine im (go_bipush (pc := 264) (Y := YX1_brawls) (v := -2) dX1_brawls_264 rfl) ?_
  refine flp (go_pI (pc := 266) (Y := YX1_brawls) fF7 (by decide) q209 (Or.inl rfl) (Or.inl rfl) rfl rfl rfl dX1_brawls_266) (fun s72 => ?_)
  refine im (go_bipush (pc := 269) (Y := YX1_brawls) (v := -2) dX1_brawls_269 rfl) ?_
  refine e2 (fun q0 q1 => ?_)
  subst q0
  subst q1
  exact go_iret (pc := 271) (Y := YX1_brawls) rfl dX1_brawls_271
abbrev YX1_brawlsOn : mY := (RX1, cX1_brawlsOn, 3, (Option.some .int), 7, 161, false)
theorem YOK_X1_brawlsOn : YOK yX1_brawlsOn 2 := ⟨⟨by decide +kernel, by decide +kernel⟩, by decide +kernel⟩
theorem mX1_brawlsOn {G : gG} (s0 : St) {this : Nat} {p0 : Option Nat} {p1 : Int32} {sE : St} {vE : Int32} (h : sX1_brawlsOn s0 this p0 p1 = some (sE, vE)) : Mt G YX1_brawlsOn yX1_brawlsOn [rV (some this), rV p0, iV p1] s0 (some (iV vE)) sE := by
  refine go_start (ls0 := [(0, rV (some this)), (1, rV p0), (2, iV p1)]) (by decide +kernel) rfl (fun h => by cases h) (Nat.le_of_ble_eq_true rfl) rfl ?_
  revert h
  unfold sX1_brawlsOn
  refine im (go_aload_n (pc := 0) (Y := YX1_brawlsOn) 0 dX1_brawlsOn_0 rfl rfl) ?_
  refine im (go_aload_n (pc := 1) (Y := YX1_brawlsOn) 1 dX1_brawlsOn_1 rfl rfl) ?_
  refine im (go_iload_n (pc := 2) (Y := YX1_brawlsOn) 2 dX1_brawlsOn_2 rfl rfl) ?_
  refine im (go_aload_n (pc := 3) (Y := YX1_brawlsOn) 0 dX1_brawlsOn_3 rfl rfl) ?_
  refine flp (go_gR (pc := 4) (Y := YX1_brawlsOn) fF1001 (by decide) q201 (Or.inl rfl) dX1_brawlsOn_4) (fun v1 => ?_)
  refine im (go_iload_n (pc := 7) (Y := YX1_brawlsOn) 2 dX1_brawlsOn_7 rfl rfl) ?_
  refine ivg (fun w2 r3 k4 => ?_)
  refine bpg (fun v5 he6 => ?_)
  refine im (go_callV (pc := 8) (Y := YX1_brawlsOn) (Yc := YX5_quarrel) (y := yX5_quarrel) (n := 1) (c0 := 5) (q := (RX5, TX5, 10)) w2 [iV p1] [iV p1, rV p0, rV (some this)] (by rw [r3]; rfl) rfl k4 (mX5_quarrel s0 he6) YOK_X5_quarrel rfl q1043 q136 q1041 q1042 q1159 (Nat.le_of_ble_eq_true rfl) (Nat.le_of_ble_eq_true rfl) (Nat.le_of_ble_eq_true rfl) dX1_brawlsOn_8 (st2 := [rV v5, iV p1, rV p0, rV (some this)]) rfl) ?_
  clear he6
  refine flp (go_gI (pc := 11) (Y := YX1_brawlsOn) fF73 (by decide) q1003 (Or.inl rfl) dX1_brawlsOn_11) (fun v7 => ?_)
  refine im (go_aload_n (pc := 14) (Y := YX1_brawlsOn) 0 dX1_brawlsOn_14 rfl rfl) ?_
  refine flp (go_gR (pc := 15) (Y := YX1_brawlsOn) fF1001 (by decide) q201 (Or.inl rfl) dX1_brawlsOn_15) (fun v8 => ?_)
  refine im (go_iload_n (pc := 18) (Y := YX1_brawlsOn) 2 dX1_brawlsOn_18 rfl rfl) ?_
  refine ivg (fun w9 r10 k11 => ?_)
  refine bpg (fun v12 he13 => ?_)
  refine im (go_callV (pc := 19) (Y := YX1_brawlsOn) (Yc := YX5_quarrel) (y := yX5_quarrel) (n := 1) (c0 := 5) (q := (RX5, TX5, 10)) w9 [iV p1] [iV v7, iV p1, rV p0, rV (some this)] (by rw [r10]; rfl) rfl k11 (mX5_quarrel s0 he13) YOK_X5_quarrel rfl q1043 q136 q1041 q1042 q1159 (Nat.le_of_ble_eq_true rfl) (Nat.le_of_ble_eq_true rfl) (Nat.le_of_ble_eq_true rfl) dX1_brawlsOn_19 (st2 := [rV v12, iV v7, iV p1, rV p0, rV (some this)]) rfl) ?_
  clear he13
  refine flp (go_gI (pc := 22) (Y := YX1_brawlsOn) fF74 (by decide) q1005 (Or.inl rfl) dX1_brawlsOn_22) (fun v14 => ?_)
  refine kdg (fun k15 => ?_)
  refine bdg (fun s16 v17 he18 => ?_)
  refine im (go_callV (pc := 25) (Y := YX1_brawlsOn) (Yc := YX1_brawls) (y := yX1_brawls) (n := 4) (c0 := 0) (q := (RX1, TX1, 25)) this [rV p0, iV p1, iV v7, iV v14] [] rfl rfl k15 (mX1_brawls s0 he18) YOK_X1_brawls rfl q1270 q129 q1269 qs43 q1267 (Nat.le_of_ble_eq_true rfl) (Nat.le_of_ble_eq_true rfl) (Nat.le_of_ble_eq_true rfl) dX1_brawlsOn_25 (st2 := [iV v17]) rfl) ?_
  clear he18
  refine e2 (fun q0 q1 => ?_)
  subst q0
  subst q1
  exact go_iret (pc := 28) (Y := YX1_brawlsOn) rfl dX1_brawlsOn_28
abbrev YX1_brawlsNow : mY := (RX1, cX1_brawlsNow, 2, (Option.some .int), 8, 183, false)
theorem YOK_X1_brawlsNow : YOK yX1_brawlsNow 1 := ⟨⟨by decide +kernel, by decide +kernel⟩, by decide +kernel⟩
theorem mX1_brawlsNow {G : gG} (s0 : St) {this : Nat} {p0 : Int32} {sE : St} {vE : Int32} (h : sX1_brawlsNow s0 this p0 = some (sE, vE)) : Mt G YX1_brawlsNow yX1_brawlsNow [rV (some this), iV p0] s0 (some (iV vE)) sE := by
  refine go_start (ls0 := [(0, rV (some this)), (1, iV p0)]) (by decide +kernel) rfl (fun h => by cases h) (Nat.le_of_ble_eq_true rfl) rfl ?_
  revert h
  unfold sX1_brawlsNow
  refine im (go_aload_n (pc := 0) (Y := YX1_brawlsNow) 0 dX1_brawlsNow_0 rfl rfl) ?_
  refine im (go_aload_n (pc := 1) (Y := YX1_brawlsNow) 0 dX1_brawlsNow_1 rfl rfl) ?_
  refine flp (go_gR (pc := 2) (Y := YX1_brawlsNow) fF1002 (by decide) q202 (Or.inl rfl) dX1_brawlsNow_2) (fun v1 => ?_)
  refine im (go_iload_n (pc := 5) (Y := YX1_brawlsNow) 1 dX1_brawlsNow_5 rfl rfl) ?_
  refine kdg (fun k2 => ?_)
  refine bdg (fun s3 v4 he5 => ?_)
  refine im (go_callV (pc := 6) (Y := YX1_brawlsNow) (Yc := YX1_brawlsOn) (y := yX1_brawlsOn) (n := 2) (c0 := 0) (q := (RX1, TX1, 25)) this [rV v1, iV p0] [] rfl rfl k2 (mX1_brawlsOn s0 he5) YOK_X1_brawlsOn rfl q1266 q129 q1265 qs42 q1263 (Nat.le_of_ble_eq_true rfl) (Nat.le_of_ble_eq_true rfl) (Nat.le_of_ble_eq_true rfl) dX1_brawlsNow_6 (st2 := [iV v4]) rfl) ?_
  clear he5
  refine e2 (fun q0 q1 => ?_)
  subst q0
  subst q1
  exact go_iret (pc := 9) (Y := YX1_brawlsNow) rfl dX1_brawlsNow_9
abbrev YX1_ends : mY := (RX1, cX1_ends, 2, (Option.some .int), 9, 204, false)
theorem YOK_X1_ends : YOK yX1_ends 1 := ⟨⟨by decide +kernel, by decide +kernel⟩, by decide +kernel⟩
theorem mX1_ends {G : gG} (s0 : St) {this : Nat} {p0 : Int32} {sE : St} {vE : Int32} (h : sX1_ends s0 this p0 = some (sE, vE)) : Mt G YX1_ends yX1_ends [rV (some this), iV p0] s0 (some (iV vE)) sE := by
  refine go_start (ls0 := [(0, rV (some this)), (1, iV p0)]) (by decide +kernel) rfl (fun h => by cases h) (Nat.le_of_ble_eq_true rfl) rfl ?_
  revert h
  unfold sX1_ends
  refine im (go_aload_n (pc := 0) (Y := YX1_ends) 0 dX1_ends_0 rfl rfl) ?_
  refine im (go_iload_n (pc := 1) (Y := YX1_ends) 1 dX1_ends_1 rfl rfl) ?_
  refine kdg (fun k1 => ?_)
  refine bpg (fun v2 he3 => ?_)
  refine im (go_callV (pc := 2) (Y := YX1_ends) (Yc := YX1_isQuarrel) (y := yX1_isQuarrel) (n := 1) (c0 := 0) (q := (RX1, TX1, 25)) this [iV p0] [] rfl rfl k1 (mX1_isQuarrel s0 he3) YOK_X1_isQuarrel rfl q1184 q129 q1183 qs36 q1181 (Nat.le_of_ble_eq_true rfl) (Nat.le_of_ble_eq_true rfl) (Nat.le_of_ble_eq_true rfl) dX1_ends_2 (st2 := [iV v2]) rfl) ?_
  clear he3
  refine flp2 (go_if_eq (pc := 5) (Y := YX1_ends) 20 dX1_ends_5 (by decide)) ?_ ?_
  · refine im (go_aload_n (pc := 20) (Y := YX1_ends) 0 dX1_ends_20 rfl rfl) ?_
    refine im (go_iconst (pc := 21) (Y := YX1_ends) (v := 1) dX1_ends_21 rfl) ?_
    refine kdg (fun k4 => ?_)
    refine bdg (fun s5 v6 he7 => ?_)
    refine im (go_callV (pc := 22) (Y := YX1_ends) (Yc := YX1_refused) (y := yX1_refused) (n := 1) (c0 := 0) (q := (RX1, TX1, 25)) this [iV 1] [] rfl rfl k4 (mX1_refused s0 he7) YOK_X1_refused rfl q288 q129 q287 qs0 q285 (Nat.le_of_ble_eq_true rfl) (Nat.le_of_ble_eq_true rfl) (Nat.le_of_ble_eq_true rfl) dX1_ends_22 (st2 := [iV v6]) rfl) ?_
    clear he7
    refine e2 (fun q0 q1 => ?_)
    subst q0
    subst q1
    exact go_iret (pc := 25) (Y := YX1_ends) rfl dX1_ends_25
  · refine im (go_aload_n (pc := 8) (Y := YX1_ends) 0 dX1_ends_8 rfl rfl) ?_
    refine im (go_aload_n (pc := 9) (Y := YX1_ends) 0 dX1_ends_9 rfl rfl) ?_
    refine im (go_iload_n (pc := 10) (Y := YX1_ends) 1 dX1_ends_10 rfl rfl) ?_
    refine kdg (fun k8 => ?_)
    refine bdg (fun s9 v10 he11 => ?_)
    refine im (go_callV (pc := 11) (Y := YX1_ends) (Yc := YX1_brawlsNow) (y := yX1_brawlsNow) (n := 1) (c0 := 0) (q := (RX1, TX1, 25)) this [iV p0] [rV (some this)] rfl rfl k8 (mX1_brawlsNow s0 he11) YOK_X1_brawlsNow rfl q1262 q129 q1261 qs41 q1259 (Nat.le_of_ble_eq_true rfl) (Nat.le_of_ble_eq_true rfl) (Nat.le_of_ble_eq_true rfl) dX1_ends_11 (st2 := [iV v10, rV (some this)]) rfl) ?_
    clear he11
    refine kdg (fun k12 => ?_)
    refine bdg (fun s13 v14 he15 => ?_)
    refine im (go_callV (pc := 14) (Y := YX1_ends) (Yc := YX1_well) (y := yX1_well) (n := 1) (c0 := 0) (q := (RX1, TX1, 25)) this [iV v10] [] rfl rfl k12 (mX1_well s9 he15) YOK_X1_well rfl q1102 q129 q1101 qs29 q1099 (Nat.le_of_ble_eq_true rfl) (Nat.le_of_ble_eq_true rfl) (Nat.le_of_ble_eq_true rfl) dX1_ends_14 (st2 := [iV v14]) rfl) ?_
    clear he15
    refine im (go_goto (pc := 17) (Y := YX1_ends) 25 dX1_ends_17 (by decide)) ?_
    refine e2 (fun q0 q1 => ?_)
    subst q0
    subst q1
    exact go_iret (pc := 25) (Y := YX1_ends) rfl dX1_ends_25
abbrev YX1_endsAt : mY := (RX1, cX1_endsAt, 2, (Option.some .int), 9, 204, false)
theorem YOK_X1_endsAt : YOK yX1_endsAt 1 := ⟨⟨by decide +kernel, by decide +kernel⟩, by decide +kernel⟩
theorem mX1_endsAt {G : gG} (s0 : St) {this : Nat} {p0 : Int32} {sE : St} {vE : Int32} (h : sX1_endsAt s0 this p0 = some (sE, vE)) : Mt G YX1_endsAt yX1_endsAt [rV (some this), iV p0] s0 (some (iV vE)) sE := by
  refine go_start (ls0 := [(0, rV (some this)), (1, iV p0)]) (by decide +kernel) rfl (fun h => by cases h) (Nat.le_of_ble_eq_true rfl) rfl ?_
  revert h
  unfold sX1_endsAt
  refine im (go_aload_n (pc := 0) (Y := YX1_endsAt) 0 dX1_endsAt_0 rfl rfl) ?_
  refine im (go_iload_n (pc := 1) (Y := YX1_endsAt) 1 dX1_endsAt_1 rfl rfl) ?_
  refine kdg (fun k1 => ?_)
  refine bpg (fun v2 he3 => ?_)
  refine im (go_callV (pc := 2) (Y := YX1_endsAt) (Yc := YX1_isQuarrel) (y := yX1_isQuarrel) (n := 1) (c0 := 0) (q := (RX1, TX1, 25)) this [iV p0] [] rfl rfl k1 (mX1_isQuarrel s0 he3) YOK_X1_isQuarrel rfl q1184 q129 q1183 qs36 q1181 (Nat.le_of_ble_eq_true rfl) (Nat.le_of_ble_eq_true rfl) (Nat.le_of_ble_eq_true rfl) dX1_endsAt_2 (st2 := [iV v2]) rfl) ?_
  clear he3
  refine flp2 (go_if_ne (pc := 5) (Y := YX1_endsAt) 14 dX1_endsAt_5 (by decide)) ?_ ?_
  · refine im (go_aload_n (pc := 8) (Y := YX1_endsAt) 0 dX1_endsAt_8 rfl rfl) ?_
    refine im (go_iconst (pc := 9) (Y := YX1_endsAt) (v := 1) dX1_endsAt_9 rfl) ?_
    refine kdg (fun k4 => ?_)
    refine bdg (fun s5 v6 he7 => ?_)
    refine im (go_callV (pc := 10) (Y := YX1_endsAt) (Yc := YX1_refused) (y := yX1_refused) (n := 1) (c0 := 0) (q := (RX1, TX1, 25)) this [iV 1] [] rfl rfl k4 (mX1_refused s0 he7) YOK_X1_refused rfl q288 q129 q287 qs0 q285 (Nat.le_of_ble_eq_true rfl) (Nat.le_of_ble_eq_true rfl) (Nat.le_of_ble_eq_true rfl) dX1_endsAt_10 (st2 := [iV v6]) rfl) ?_
    clear he7
    refine e2 (fun q0 q1 => ?_)
    subst q0
    subst q1
    exact go_iret (pc := 13) (Y := YX1_endsAt) rfl dX1_endsAt_13
  · refine im (go_aload_n (pc := 14) (Y := YX1_endsAt) 0 dX1_endsAt_14 rfl rfl) ?_
    refine im (go_iload_n (pc := 15) (Y := YX1_endsAt) 1 dX1_endsAt_15 rfl rfl) ?_
    refine kdg (fun k8 => ?_)
    refine bdg (fun s9 v10 he11 => ?_)
    refine im (go_callV (pc := 16) (Y := YX1_endsAt) (Yc := YX1_brawlsNow) (y := yX1_brawlsNow) (n := 1) (c0 := 0) (q := (RX1, TX1, 25)) this [iV p0] [] rfl rfl k8 (mX1_brawlsNow s0 he11) YOK_X1_brawlsNow rfl q1262 q129 q1261 qs41 q1259 (Nat.le_of_ble_eq_true rfl) (Nat.le_of_ble_eq_true rfl) (Nat.le_of_ble_eq_true rfl) dX1_endsAt_16 (st2 := [iV v10]) rfl) ?_
    clear he11
    refine im (go_pop (pc := 19) (Y := YX1_endsAt) dX1_endsAt_19 rfl) ?_
    refine im (go_aload_n (pc := 20) (Y := YX1_endsAt) 0 dX1_endsAt_20 rfl rfl) ?_
    refine im (go_aload_n (pc := 21) (Y := YX1_endsAt) 0 dX1_endsAt_21 rfl rfl) ?_
    refine flp (go_gI (pc := 22) (Y := YX1_endsAt) fF7 (by decide) q209 (Or.inl rfl) dX1_endsAt_22) (fun v12 => ?_)
    refine kdg (fun k13 => ?_)
    refine bdg (fun s14 v15 he16 => ?_)
    refine im (go_callV (pc := 25) (Y := YX1_endsAt) (Yc := YX1_well) (y := yX1_well) (n := 1) (c0 := 0) (q := (RX1, TX1, 25)) this [iV v12] [] rfl rfl k13 (mX1_well s9 he16) YOK_X1_well rfl q1102 q129 q1101 qs29 q1099 (Nat.le_of_ble_eq_true rfl) (Nat.le_of_ble_eq_true rfl) (Nat.le_of_ble_eq_true rfl) dX1_endsAt_25 (st2 := [iV v15]) rfl) ?_
    clear he16
    refine e2 (fun q0 q1 => ?_)
    subst q0
    subst q1
    exact go_iret (pc := 28) (Y := YX1_endsAt) rfl dX1_endsAt_28
abbrev YX1_lead : mY := (RX1, cX1_lead, 2, (Option.some .int), 9, 204, false)
theorem YOK_X1_lead : YOK yX1_lead 1 := ⟨⟨by decide +kernel, by decide +kernel⟩, by decide +kernel⟩
theorem mX1_lead {G : gG} (s0 : St) {this : Nat} {p0 : Int32} {sE : St} {vE : Int32} (h : sX1_lead s0 this p0 = some (sE, vE)) : Mt G YX1_lead yX1_lead [rV (some this), iV p0] s0 (some (iV vE)) sE := by
  refine go_start (ls0 := [(0, rV (some this)), (1, iV p0)]) (by decide +kernel) rfl (fun h => by cases h) (Nat.le_of_ble_eq_true rfl) rfl ?_
  revert h
  unfold sX1_lead
  refine im (go_aload_n (pc := 0) (Y := YX1_lead) 0 dX1_lead_0 rfl rfl) ?_
  refine im (go_iload_n (pc := 1) (Y := YX1_lead) 1 dX1_lead_1 rfl rfl) ?_
  refine kdg (fun k1 => ?_)
  refine bpg (fun v2 he3 => ?_)
  refine im (go_callV (pc := 2) (Y := YX1_lead) (Yc := YX1_isQuarrel) (y := yX1_isQuarrel) (n := 1) (c0 := 0) (q := (RX1, TX1, 25)) this [iV p0] [] rfl rfl k1 (mX1_isQuarrel s0 he3) YOK_X1_isQuarrel rfl q1184 q129 q1183 qs36 q1181 (Nat.le_of_ble_eq_true rfl) (Nat.le_of_ble_eq_true rfl) (Nat.le_of_ble_eq_true rfl) dX1_lead_2 (st2 := [iV v2]) rfl) ?_
  clear he3
  refine flp2 (go_if_ne (pc := 5) (Y := YX1_lead) 14 dX1_lead_5 (by decide)) ?_ ?_
  · refine im (go_aload_n (pc := 8) (Y := YX1_lead) 0 dX1_lead_8 rfl rfl) ?_
    refine im (go_iconst (pc := 9) (Y := YX1_lead) (v := 1) dX1_lead_9 rfl) ?_
    refine kdg (fun k4 => ?_)
    refine bdg (fun s5 v6 he7 => ?_)
    refine im (go_callV (pc := 10) (Y := YX1_lead) (Yc := YX1_refused) (y := yX1_refused) (n := 1) (c0 := 0) (q := (RX1, TX1, 25)) this [iV 1] [] rfl rfl k4 (mX1_refused s0 he7) YOK_X1_refused rfl q288 q129 q287 qs0 q285 (Nat.le_of_ble_eq_true rfl) (Nat.le_of_ble_eq_true rfl) (Nat.le_of_ble_eq_true rfl) dX1_lead_10 (st2 := [iV v6]) rfl) ?_
    clear he7
    refine e2 (fun q0 q1 => ?_)
    subst q0
    subst q1
    exact go_iret (pc := 13) (Y := YX1_lead) rfl dX1_lead_13
  · refine im (go_aload_n (pc := 14) (Y := YX1_lead) 0 dX1_lead_14 rfl rfl) ?_
    refine im (go_iload_n (pc := 15) (Y := YX1_lead) 1 dX1_lead_15 rfl rfl) ?_
    refine kdg (fun k8 => ?_)
    refine bdg (fun s9 v10 he11 => ?_)
    refine im (go_callV (pc := 16) (Y := YX1_lead) (Yc := YX1_brawlsNow) (y := yX1_brawlsNow) (n := 1) (c0 := 0) (q := (RX1, TX1, 25)) this [iV p0] [] rfl rfl k8 (mX1_brawlsNow s0 he11) YOK_X1_brawlsNow rfl q1262 q129 q1261 qs41 q1259 (Nat.le_of_ble_eq_true rfl) (Nat.le_of_ble_eq_true rfl) (Nat.le_of_ble_eq_true rfl) dX1_lead_16 (st2 := [iV v10]) rfl) ?_
    clear he11
    refine im (go_pop (pc := 19) (Y := YX1_lead) dX1_lead_19 rfl) ?_
    refine im (go_aload_n (pc := 20) (Y := YX1_lead) 0 dX1_lead_20 rfl rfl) ?_
    refine im (go_sipush (pc := 21) (Y := YX1_lead) (v := 1000) dX1_lead_21 rfl) ?_
    refine im (go_aload_n (pc := 24) (Y := YX1_lead) 0 dX1_lead_24 rfl rfl) ?_
    refine flp (go_gI (pc := 25) (Y := YX1_lead) fF8 (by decide) q210 (Or.inl rfl) dX1_lead_25) (fun v12 => ?_)
    refine im (go_iadd (pc := 28) (Y := YX1_lead) dX1_lead_28) ?_
    refine kdg (fun k13 => ?_)
    refine bdg (fun s14 v15 he16 => ?_)
    refine im (go_callV (pc := 29) (Y := YX1_lead) (Yc := YX1_well) (y := yX1_well) (n := 1) (c0 := 0) (q := (RX1, TX1, 25)) this [iV (1000 + v12)] [] rfl rfl k13 (mX1_well s9 he16) YOK_X1_well rfl q1102 q129 q1101 qs29 q1099 (Nat.le_of_ble_eq_true rfl) (Nat.le_of_ble_eq_true rfl) (Nat.le_of_ble_eq_true rfl) dX1_lead_29 (st2 := [iV v15]) rfl) ?_
    clear he16
    refine e2 (fun q0 q1 => ?_)
    subst q0
    subst q1
    exact go_iret (pc := 32) (Y := YX1_lead) rfl dX1_lead_32
abbrev YX1_seen : mY := (RX1, cX1_seen, 2, (Option.some .int), 9, 204, false)
theorem YOK_X1_seen : YOK yX1_seen 1 := ⟨⟨by decide +kernel, by decide +kernel⟩, by decide +kernel⟩
theorem mX1_seen {G : gG} (s0 : St) {this : Nat} {p0 : Int32} {sE : St} {vE : Int32} (h : sX1_seen s0 this p0 = some (sE, vE)) : Mt G YX1_seen yX1_seen [rV (some this), iV p0] s0 (some (iV vE)) sE := by
  refine go_start (ls0 := [(0, rV (some this)), (1, iV p0)]) (by decide +kernel) rfl (fun h => by cases h) (Nat.le_of_ble_eq_true rfl) rfl ?_
  revert h
  unfold sX1_seen
  refine im (go_aload_n (pc := 0) (Y := YX1_seen) 0 dX1_seen_0 rfl rfl) ?_
  refine im (go_iload_n (pc := 1) (Y := YX1_seen) 1 dX1_seen_1 rfl rfl) ?_
  refine kdg (fun k1 => ?_)
  refine bpg (fun v2 he3 => ?_)
  refine im (go_callV (pc := 2) (Y := YX1_seen) (Yc := YX1_isQuarrel) (y := yX1_isQuarrel) (n := 1) (c0 := 0) (q := (RX1, TX1, 25)) this [iV p0] [] rfl rfl k1 (mX1_isQuarrel s0 he3) YOK_X1_isQuarrel rfl q1184 q129 q1183 qs36 q1181 (Nat.le_of_ble_eq_true rfl) (Nat.le_of_ble_eq_true rfl) (Nat.le_of_ble_eq_true rfl) dX1_seen_2 (st2 := [iV v2]) rfl) ?_
  clear he3
  refine flp2 (go_if_ne (pc := 5) (Y := YX1_seen) 14 dX1_seen_5 (by decide)) ?_ ?_
  · refine im (go_aload_n (pc := 8) (Y := YX1_seen) 0 dX1_seen_8 rfl rfl) ?_
    refine im (go_iconst (pc := 9) (Y := YX1_seen) (v := 1) dX1_seen_9 rfl) ?_
    refine kdg (fun k4 => ?_)
    refine bdg (fun s5 v6 he7 => ?_)
    refine im (go_callV (pc := 10) (Y := YX1_seen) (Yc := YX1_refused) (y := yX1_refused) (n := 1) (c0 := 0) (q := (RX1, TX1, 25)) this [iV 1] [] rfl rfl k4 (mX1_refused s0 he7) YOK_X1_refused rfl q288 q129 q287 qs0 q285 (Nat.le_of_ble_eq_true rfl) (Nat.le_of_ble_eq_true rfl) (Nat.le_of_ble_eq_true rfl) dX1_seen_10 (st2 := [iV v6]) rfl) ?_
    clear he7
    refine e2 (fun q0 q1 => ?_)
    subst q0
    subst q1
    exact go_iret (pc := 13) (Y := YX1_seen) rfl dX1_seen_13
  · refine im (go_aload_n (pc := 14) (Y := YX1_seen) 0 dX1_seen_14 rfl rfl) ?_
    refine im (go_iload_n (pc := 15) (Y := YX1_seen) 1 dX1_seen_15 rfl rfl) ?_
    refine kdg (fun k8 => ?_)
    refine bdg (fun s9 v10 he11 => ?_)
    refine im (go_callV (pc := 16) (Y := YX1_seen) (Yc := YX1_brawlsNow) (y := yX1_brawlsNow) (n := 1) (c0 := 0) (q := (RX1, TX1, 25)) this [iV p0] [] rfl rfl k8 (mX1_brawlsNow s0 he11) YOK_X1_brawlsNow rfl q1262 q129 q1261 qs41 q1259 (Nat.le_of_ble_eq_true rfl) (Nat.le_of_ble_eq_true rfl) (Nat.le_of_ble_eq_true rfl) dX1_seen_16 (st2 := [iV v10]) rfl) ?_
    clear he11
    refine im (go_pop (pc := 19) (Y := YX1_seen) dX1_seen_19 rfl) ?_
    refine im (go_aload_n (pc := 20) (Y := YX1_seen) 0 dX1_seen_20 rfl rfl) ?_
    refine im (go_aload_n (pc := 21) (Y := YX1_seen) 0 dX1_seen_21 rfl rfl) ?_
    refine flp (go_gI (pc := 22) (Y := YX1_seen) fF9 (by decide) q211 (Or.inl rfl) dX1_seen_22) (fun v12 => ?_)
    refine kdg (fun k13 => ?_)
    refine bdg (fun s14 v15 he16 => ?_)
    refine im (go_callV (pc := 25) (Y := YX1_seen) (Yc := YX1_well) (y := yX1_well) (n := 1) (c0 := 0) (q := (RX1, TX1, 25)) this [iV v12] [] rfl rfl k13 (mX1_well s9 he16) YOK_X1_well rfl q1102 q129 q1101 qs29 q1099 (Nat.le_of_ble_eq_true rfl) (Nat.le_of_ble_eq_true rfl) (Nat.le_of_ble_eq_true rfl) dX1_seen_25 (st2 := [iV v15]) rfl) ?_
    clear he16
    refine e2 (fun q0 q1 => ?_)
    subst q0
    subst q1
    exact go_iret (pc := 28) (Y := YX1_seen) rfl dX1_seen_28
abbrev YX1_third : mY := (RX1, cX1_third, 2, (Option.some .int), 9, 204, false)
theorem YOK_X1_third : YOK yX1_third 1 := ⟨⟨by decide +kernel, by decide +kernel⟩, by decide +kernel⟩
theorem mX1_third {G : gG} (s0 : St) {this : Nat} {p0 : Int32} {sE : St} {vE : Int32} (h : sX1_third s0 this p0 = some (sE, vE)) : Mt G YX1_third yX1_third [rV (some this), iV p0] s0 (some (iV vE)) sE := by
  refine go_start (ls0 := [(0, rV (some this)), (1, iV p0)]) (by decide +kernel) rfl (fun h => by cases h) (Nat.le_of_ble_eq_true rfl) rfl ?_
  revert h
  unfold sX1_third
  refine im (go_aload_n (pc := 0) (Y := YX1_third) 0 dX1_third_0 rfl rfl) ?_
  refine im (go_iload_n (pc := 1) (Y := YX1_third) 1 dX1_third_1 rfl rfl) ?_
  refine kdg (fun k1 => ?_)
  refine bpg (fun v2 he3 => ?_)
  refine im (go_callV (pc := 2) (Y := YX1_third) (Yc := YX1_isQuarrel) (y := yX1_isQuarrel) (n := 1) (c0 := 0) (q := (RX1, TX1, 25)) this [iV p0] [] rfl rfl k1 (mX1_isQuarrel s0 he3) YOK_X1_isQuarrel rfl q1184 q129 q1183 qs36 q1181 (Nat.le_of_ble_eq_true rfl) (Nat.le_of_ble_eq_true rfl) (Nat.le_of_ble_eq_true rfl) dX1_third_2 (st2 := [iV v2]) rfl) ?_
  clear he3
  refine flp2 (go_if_ne (pc := 5) (Y := YX1_third) 14 dX1_third_5 (by decide)) ?_ ?_
  · refine im (go_aload_n (pc := 8) (Y := YX1_third) 0 dX1_third_8 rfl rfl) ?_
    refine im (go_iconst (pc := 9) (Y := YX1_third) (v := 1) dX1_third_9 rfl) ?_
    refine kdg (fun k4 => ?_)
    refine bdg (fun s5 v6 he7 => ?_)
    refine im (go_callV (pc := 10) (Y := YX1_third) (Yc := YX1_refused) (y := yX1_refused) (n := 1) (c0 := 0) (q := (RX1, TX1, 25)) this [iV 1] [] rfl rfl k4 (mX1_refused s0 he7) YOK_X1_refused rfl q288 q129 q287 qs0 q285 (Nat.le_of_ble_eq_true rfl) (Nat.le_of_ble_eq_true rfl) (Nat.le_of_ble_eq_true rfl) dX1_third_10 (st2 := [iV v6]) rfl) ?_
    clear he7
    refine e2 (fun q0 q1 => ?_)
    subst q0
    subst q1
    exact go_iret (pc := 13) (Y := YX1_third) rfl dX1_third_13
  · refine im (go_aload_n (pc := 14) (Y := YX1_third) 0 dX1_third_14 rfl rfl) ?_
    refine im (go_iload_n (pc := 15) (Y := YX1_third) 1 dX1_third_15 rfl rfl) ?_
    refine kdg (fun k8 => ?_)
    refine bdg (fun s9 v10 he11 => ?_)
    refine im (go_callV (pc := 16) (Y := YX1_third) (Yc := YX1_brawlsNow) (y := yX1_brawlsNow) (n := 1) (c0 := 0) (q := (RX1, TX1, 25)) this [iV p0] [] rfl rfl k8 (mX1_brawlsNow s0 he11) YOK_X1_brawlsNow rfl q1262 q129 q1261 qs41 q1259 (Nat.le_of_ble_eq_true rfl) (Nat.le_of_ble_eq_true rfl) (Nat.le_of_ble_eq_true rfl) dX1_third_16 (st2 := [iV v10]) rfl) ?_
    clear he11
    refine im (go_pop (pc := 19) (Y := YX1_third) dX1_third_19 rfl) ?_
    refine im (go_aload_n (pc := 20) (Y := YX1_third) 0 dX1_third_20 rfl rfl) ?_
    refine im (go_aload_n (pc := 21) (Y := YX1_third) 0 dX1_third_21 rfl rfl) ?_
    refine flp (go_gI (pc := 22) (Y := YX1_third) fF10 (by decide) q212 (Or.inl rfl) dX1_third_22) (fun v12 => ?_)
    refine kdg (fun k13 => ?_)
    refine bdg (fun s14 v15 he16 => ?_)
    refine im (go_callV (pc := 25) (Y := YX1_third) (Yc := YX1_well) (y := yX1_well) (n := 1) (c0 := 0) (q := (RX1, TX1, 25)) this [iV v12] [] rfl rfl k13 (mX1_well s9 he16) YOK_X1_well rfl q1102 q129 q1101 qs29 q1099 (Nat.le_of_ble_eq_true rfl) (Nat.le_of_ble_eq_true rfl) (Nat.le_of_ble_eq_true rfl) dX1_third_25 (st2 := [iV v15]) rfl) ?_
    clear he16
    refine e2 (fun q0 q1 => ?_)
    subst q0
    subst q1
    exact go_iret (pc := 28) (Y := YX1_third) rfl dX1_third_28
abbrev YX1_won : mY := (RX1, cX1_won, 3, (Option.some .int), 9, 204, false)
theorem YOK_X1_won : YOK yX1_won 0 := ⟨⟨by decide +kernel, by decide +kernel⟩, by decide +kernel⟩
theorem sX1_won_L17_go {G : gG} {s0 sE : St} {rE : Option V3} (this : Nat) : ∀ (n : Nat) (s6 : St) (v7 : Int32) (v8 : Int32) (s9 : St) (v10 : Int32), sX1_won_L17 this n s6 v7 v8 = some (s9, v10) → Go G YX1_won s0 sE rE 49 [(0, rV (some this)), (1, iV v10)] [] s9 → Go G YX1_won s0 sE rE 17 [(0, rV (some this)), (1, iV v7), (2, iV v8)] [] s6 := by
  intro n
  induction n with
  | zero => intro s6 v7 v8 s9 v10 h hx; rw [sX1_won_L17] at h; cases h
  | succ n ih =>
    intro s6 v7 v8 s9 v10 h hx
    revert h
    rw [sX1_won_L17]
    refine im (go_iload_n (pc := 17) (Y := YX1_won) 2 dX1_won_17 rfl rfl) ?_
    refine im (go_aload_n (pc := 18) (Y := YX1_won) 0 dX1_won_18 rfl rfl) ?_
    refine kdg (fun k11 => ?_)
    refine bpg (fun v12 he13 => ?_)
    refine im (go_callV (pc := 19) (Y := YX1_won) (Yc := YX1_quarrels) (y := yX1_quarrels) (n := 0) (c0 := 0) (q := (RX1, TX1, 25)) this [] [iV v8] rfl rfl k11 (mX1_quarrels s6 he13) YOK_X1_quarrels rfl q1158 q129 q1157 qs33 q1155 (Nat.le_of_ble_eq_true rfl) (Nat.le_of_ble_eq_true rfl) (Nat.le_of_ble_eq_true rfl) dX1_won_19 (st2 := [iV v12, iV v8]) rfl) ?_
    clear he13
    refine flp2 (go_icmp_ge (pc := 22) (Y := YX1_won) 49 dX1_won_22 (by decide)) ?_ ?_
    · refine e2 (fun q0 q1 => ?_)
      subst q0
      subst q1
      exact go_sub [0, 1] rfl hx
    · refine im (go_iload_n (pc := 25) (Y := YX1_won) 1 dX1_won_25 rfl rfl) ?_
      refine im (go_aload_n (pc := 26) (Y := YX1_won) 0 dX1_won_26 rfl rfl) ?_
      refine im (go_iload_n (pc := 27) (Y := YX1_won) 2 dX1_won_27 rfl rfl) ?_
      refine kdg (fun k14 => ?_)
      refine bdg (fun s15 v16 he17 => ?_)
      refine im (go_callV (pc := 28) (Y := YX1_won) (Yc := YX1_brawlsNow) (y := yX1_brawlsNow) (n := 1) (c0 := 0) (q := (RX1, TX1, 25)) this [iV v8] [iV v7] rfl rfl k14 (mX1_brawlsNow s6 he17) YOK_X1_brawlsNow rfl q1262 q129 q1261 qs41 q1259 (Nat.le_of_ble_eq_true rfl) (Nat.le_of_ble_eq_true rfl) (Nat.le_of_ble_eq_true rfl) dX1_won_28 (st2 := [iV v16, iV v7]) rfl) ?_
      clear he17
      refine bpg (fun v18 he19 h20 => ?_)
      have hj41 : Go G YX1_won s0 sE rE 41 [(0, rV (some this)), (2, iV v8)] [iV v18, iV v7] s15 := by
        clear he19
        revert h20
        refine im (go_ior (pc := 41) (Y := YX1_won) dX1_won_41) ?_
        refine im (go_istore_n (pc := 42) (Y := YX1_won) (ls2 := [(1, iV (v7 ||| v18)), (0, rV (some this)), (2, iV v8)]) dX1_won_42 rfl (Nat.le_of_ble_eq_true rfl) rfl) ?_
        refine im (go_iinc (pc := 43) (Y := YX1_won) 2 (v := (v8 + 1)) (ls2 := [(2, iV (v8 + 1)), (1, iV (v7 ||| v18)), (0, rV (some this))]) dX1_won_43 rfl rfl (Nat.le_of_ble_eq_true rfl) rfl) ?_
        refine im (go_goto (pc := 46) (Y := YX1_won) 17 dX1_won_46 (by decide)) ?_
        exact fun hq => go_sub [2, 1, 0] rfl (ih _ _ _ _ _ hq hx)
      clear h20
      revert he19
      refine flp2 (go_if_le (pc := 31) (Y := YX1_won) 40 dX1_won_31 (by decide)) ?_ ?_
      · refine im (go_iconst (pc := 40) (Y := YX1_won) (v := 0) dX1_won_40 rfl) ?_
        refine e1 (fun q0 => ?_)
        subst q0
        exact go_sub [0, 2] rfl hj41
      · refine im (go_iconst (pc := 34) (Y := YX1_won) (v := 1) dX1_won_34 rfl) ?_
        refine im (go_iload_n (pc := 35) (Y := YX1_won) 2 dX1_won_35 rfl rfl) ?_
        refine im (go_ishl (pc := 36) (Y := YX1_won) dX1_won_36) ?_
        refine im (go_goto (pc := 37) (Y := YX1_won) 41 dX1_won_37 (by decide)) ?_
        refine e1 (fun q0 => ?_)
        subst q0
        exact go_sub [0, 2] rfl hj41
theorem mX1_won {G : gG} (s0 : St) {this : Nat} {sE : St} {vE : Int32} (h : sX1_won s0 this = some (sE, vE)) : Mt G YX1_won yX1_won [rV (some this)] s0 (some (iV vE)) sE := by
  refine go_start (ls0 := [(0, rV (some this))]) (by decide +kernel) rfl (fun h => by cases h) (Nat.le_of_ble_eq_true rfl) rfl ?_
  revert h
  unfold sX1_won
  refine im (go_aload_n (pc := 0) (Y := YX1_won) 0 dX1_won_0 rfl rfl) ?_
  refine flp (go_gR (pc := 1) (Y := YX1_won) fF1001 (by decide) q201 (Or.inl rfl) dX1_won_1) (fun v1 => ?_)
  refine flp2 (go_ifnonnull (pc := 4) (Y := YX1_won) 13 dX1_won_4 (by decide)) ?_ ?_
  · refine im (go_aload_n (pc := 7) (Y := YX1_won) 0 dX1_won_7 rfl rfl) ?_
    refine im (go_iconst (pc := 8) (Y := YX1_won) (v := 1) dX1_won_8 rfl) ?_
    refine kdg (fun k2 => ?_)
    refine bdg (fun s3 v4 he5 => ?_)
    refine im (go_callV (pc := 9) (Y := YX1_won) (Yc := YX1_refused) (y := yX1_refused) (n := 1) (c0 := 0) (q := (RX1, TX1, 25)) this [iV 1] [] rfl rfl k2 (mX1_refused s0 he5) YOK_X1_refused rfl q288 q129 q287 qs0 q285 (Nat.le_of_ble_eq_true rfl) (Nat.le_of_ble_eq_true rfl) (Nat.le_of_ble_eq_true rfl) dX1_won_9 (st2 := [iV v4]) rfl) ?_
    clear he5
    refine e2 (fun q0 q1 => ?_)
    subst q0
    subst q1
    exact go_iret (pc := 12) (Y := YX1_won) rfl dX1_won_12
  · refine im (go_iconst (pc := 13) (Y := YX1_won) (v := 0) dX1_won_13 rfl) ?_
    refine im (go_istore_n (pc := 14) (Y := YX1_won) (ls2 := [(1, iV 0), (0, rV (some this))]) dX1_won_14 rfl (Nat.le_of_ble_eq_true rfl) rfl) ?_
    refine im (go_iconst (pc := 15) (Y := YX1_won) (v := 0) dX1_won_15 rfl) ?_
    refine im (go_istore_n (pc := 16) (Y := YX1_won) (ls2 := [(2, iV 0), (1, iV 0), (0, rV (some this))]) dX1_won_16 rfl (Nat.le_of_ble_eq_true rfl) rfl) ?_
    refine b2g (fun s21 v22 he27 h28 => ?_)
    refine go_sub [2, 1, 0] rfl (sX1_won_L17_go this FU _ _ _ _ _ he27 ?_)
    clear he27
    revert h28
    refine im (go_aload_n (pc := 49) (Y := YX1_won) 0 dX1_won_49 rfl rfl) ?_
    refine im (go_iload_n (pc := 50) (Y := YX1_won) 1 dX1_won_50 rfl rfl) ?_
    refine kdg (fun k23 => ?_)
    refine bdg (fun s24 v25 he26 => ?_)
    refine im (go_callV (pc := 51) (Y := YX1_won) (Yc := YX1_well) (y := yX1_well) (n := 1) (c0 := 0) (q := (RX1, TX1, 25)) this [iV v22] [] rfl rfl k23 (mX1_well s21 he26) YOK_X1_well rfl q1102 q129 q1101 qs29 q1099 (Nat.le_of_ble_eq_true rfl) (Nat.le_of_ble_eq_true rfl) (Nat.le_of_ble_eq_true rfl) dX1_won_51 (st2 := [iV v25]) rfl) ?_
    clear he26
    refine e2 (fun q0 q1 => ?_)
    subst q0
    subst q1
    exact go_iret (pc := 54) (Y := YX1_won) rfl dX1_won_54
abbrev YX1_stoppedOn : mY := (RX1, cX1_stoppedOn, 4, (Option.some .int), 8, 183, false)
theorem YOK_X1_stoppedOn : YOK yX1_stoppedOn 1 := ⟨⟨by decide +kernel, by decide +kernel⟩, by decide +kernel⟩
theorem sX1_stoppedOn_L4_go {G : gG} {s0 sE : St} {rE : Option V3} (this : Nat) (i1 : Option Nat) : ∀ (n : Nat) (s1 : St) (v2 : Int32) (v3 : Int32) (s4 : St) (v5 : Int32), sX1_stoppedOn_L4 this i1 n s1 v2 v3 = some (s4, v5) → Go G YX1_stoppedOn s0 sE rE 37 [(2, iV v5)] [] s4 → Go G YX1_stoppedOn s0 sE rE 4 [(0, rV (some this)), (1, rV i1), (2, iV v2), (3, iV v3)] [] s1 := by
  intro n
  induction n with
  | zero => intro s1 v2 v3 s4 v5 h hx; rw [sX1_stoppedOn_L4] at h; cases h
  | succ n ih =>
    intro s1 v2 v3 s4 v5 h hx
    revert h
    rw [sX1_stoppedOn_L4]
    refine im (go_iload_n (pc := 4) (Y := YX1_stoppedOn) 3 dX1_stoppedOn_4 rfl rfl) ?_
    refine im (go_aload_n (pc := 5) (Y := YX1_stoppedOn) 0 dX1_stoppedOn_5 rfl rfl) ?_
    refine kdg (fun k6 => ?_)
    refine bpg (fun v7 he8 => ?_)
    refine im (go_callV (pc := 6) (Y := YX1_stoppedOn) (Yc := YX1_quarrels) (y := yX1_quarrels) (n := 0) (c0 := 0) (q := (RX1, TX1, 25)) this [] [iV v3] rfl rfl k6 (mX1_quarrels s1 he8) YOK_X1_quarrels rfl q1158 q129 q1157 qs33 q1155 (Nat.le_of_ble_eq_true rfl) (Nat.le_of_ble_eq_true rfl) (Nat.le_of_ble_eq_true rfl) dX1_stoppedOn_6 (st2 := [iV v7, iV v3]) rfl) ?_
    clear he8
    refine flp2 (go_icmp_ge (pc := 9) (Y := YX1_stoppedOn) 37 dX1_stoppedOn_9 (by decide)) ?_ ?_
    · refine e2 (fun q0 q1 => ?_)
      subst q0
      subst q1
      exact go_sub [2] rfl hx
    · refine im (go_iload_n (pc := 12) (Y := YX1_stoppedOn) 2 dX1_stoppedOn_12 rfl rfl) ?_
      refine im (go_aload_n (pc := 13) (Y := YX1_stoppedOn) 0 dX1_stoppedOn_13 rfl rfl) ?_
      refine im (go_aload_n (pc := 14) (Y := YX1_stoppedOn) 1 dX1_stoppedOn_14 rfl rfl) ?_
      refine im (go_iload_n (pc := 15) (Y := YX1_stoppedOn) 3 dX1_stoppedOn_15 rfl rfl) ?_
      refine kdg (fun k9 => ?_)
      refine bdg (fun s10 v11 he12 => ?_)
      refine im (go_callV (pc := 16) (Y := YX1_stoppedOn) (Yc := YX1_brawlsOn) (y := yX1_brawlsOn) (n := 2) (c0 := 0) (q := (RX1, TX1, 25)) this [rV i1, iV v3] [iV v2] rfl rfl k9 (mX1_brawlsOn s1 he12) YOK_X1_brawlsOn rfl q1266 q129 q1265 qs42 q1263 (Nat.le_of_ble_eq_true rfl) (Nat.le_of_ble_eq_true rfl) (Nat.le_of_ble_eq_true rfl) dX1_stoppedOn_16 (st2 := [iV v11, iV v2]) rfl) ?_
      clear he12
      refine bpg (fun v13 he14 h15 => ?_)
      have hj29 : Go G YX1_stoppedOn s0 sE rE 29 [(0, rV (some this)), (1, rV i1), (3, iV v3)] [iV v13, iV v2] s10 := by
        clear he14
        revert h15
        refine im (go_ior (pc := 29) (Y := YX1_stoppedOn) dX1_stoppedOn_29) ?_
        refine im (go_istore_n (pc := 30) (Y := YX1_stoppedOn) (ls2 := [(2, iV (v2 ||| v13)), (0, rV (some this)), (1, rV i1), (3, iV v3)]) dX1_stoppedOn_30 rfl (Nat.le_of_ble_eq_true rfl) rfl) ?_
        refine im (go_iinc (pc := 31) (Y := YX1_stoppedOn) 3 (v := (v3 + 1)) (ls2 := [(3, iV (v3 + 1)), (2, iV (v2 ||| v13)), (0, rV (some this)), (1, rV i1)]) dX1_stoppedOn_31 rfl rfl (Nat.le_of_ble_eq_true rfl) rfl) ?_
        refine im (go_goto (pc := 34) (Y := YX1_stoppedOn) 4 dX1_stoppedOn_34 (by decide)) ?_
        exact fun hq => go_sub [2, 3, 1, 0] rfl (ih _ _ _ _ _ hq hx)
      clear h15
      revert he14
      refine flp2 (go_if_ne (pc := 19) (Y := YX1_stoppedOn) 28 dX1_stoppedOn_19 (by decide)) ?_ ?_
      · refine im (go_iconst (pc := 22) (Y := YX1_stoppedOn) (v := 1) dX1_stoppedOn_22 rfl) ?_
        refine im (go_iload_n (pc := 23) (Y := YX1_stoppedOn) 3 dX1_stoppedOn_23 rfl rfl) ?_
        refine im (go_ishl (pc := 24) (Y := YX1_stoppedOn) dX1_stoppedOn_24) ?_
        refine im (go_goto (pc := 25) (Y := YX1_stoppedOn) 29 dX1_stoppedOn_25 (by decide)) ?_
        refine e1 (fun q0 => ?_)
        subst q0
        exact go_sub [0, 1, 3] rfl hj29
      · refine im (go_iconst (pc := 28) (Y := YX1_stoppedOn) (v := 0) dX1_stoppedOn_28 rfl) ?_
        refine e1 (fun q0 => ?_)
        subst q0
        exact go_sub [0, 1, 3] rfl hj29
theorem mX1_stoppedOn {G : gG} (s0 : St) {this : Nat} {p0 : Option Nat} {sE : St} {vE : Int32} (h : sX1_stoppedOn s0 this p0 = some (sE, vE)) : Mt G YX1_stoppedOn yX1_stoppedOn [rV (some this), rV p0] s0 (some (iV vE)) sE := by
  refine go_start (ls0 := [(0, rV (some this)), (1, rV p0)]) (by decide +kernel) rfl (fun h => by cases h) (Nat.le_of_ble_eq_true rfl) rfl ?_
  revert h
  unfold sX1_stoppedOn
  refine im (go_iconst (pc := 0) (Y := YX1_stoppedOn) (v := 0) dX1_stoppedOn_0 rfl) ?_
  refine im (go_istore_n (pc := 1) (Y := YX1_stoppedOn) (ls2 := [(2, iV 0), (0, rV (some this)), (1, rV p0)]) dX1_stoppedOn_1 rfl (Nat.le_of_ble_eq_true rfl) rfl) ?_
  refine im (go_iconst (pc := 2) (Y := YX1_stoppedOn) (v := 0) dX1_stoppedOn_2 rfl) ?_
  refine im (go_istore_n (pc := 3) (Y := YX1_stoppedOn) (ls2 := [(3, iV 0), (2, iV 0), (0, rV (some this)), (1, rV p0)]) dX1_stoppedOn_3 rfl (Nat.le_of_ble_eq_true rfl) rfl) ?_
  refine b2g (fun s16 v17 he18 h19 => ?_)
  refine go_sub [2, 3, 1, 0] rfl (sX1_stoppedOn_L4_go this p0 FU _ _ _ _ _ he18 ?_)
  clear he18
  revert h19
  refine im (go_iload_n (pc := 37) (Y := YX1_stoppedOn) 0 dX1_stoppedOn_37 rfl rfl) ?_
  refine e2 (fun q0 q1 => ?_)
  subst q0
  subst q1
  exact go_iret (pc := 38) (Y := YX1_stoppedOn) rfl dX1_stoppedOn_38
abbrev YX1_bits : mY := (RX1, cX1_bits, 3, (Option.some .int), 0, 0, false)
theorem YOK_X1_bits : YOK yX1_bits 1 := ⟨⟨by decide +kernel, by decide +kernel⟩, by decide +kernel⟩
theorem sX1_bits_L4_go {G : gG} {s0 sE : St} {rE : Option V3} (s1 : St) : ∀ (n : Nat) (v2 : Int32) (v3 : Int32) (v4 : Int32), sX1_bits_L4 n v2 v3 = some v4 → Go G YX1_bits s0 sE rE 20 [(1, iV v4)] [] s1 → Go G YX1_bits s0 sE rE 4 [(1, iV v2), (2, iV v3)] [] s1 := by
  intro n
  induction n with
  | zero => intro v2 v3 v4 h hx; rw [sX1_bits_L4] at h; cases h
  | succ n ih =>
    intro v2 v3 v4 h hx
    revert h
    rw [sX1_bits_L4]
    refine im (go_iload_n (pc := 4) (Y := YX1_bits) 1 dX1_bits_4 rfl rfl) ?_
    refine flp2 (go_if_eq (pc := 5) (Y := YX1_bits) 20 dX1_bits_5 (by decide)) ?_ ?_
    · refine e1 (fun q0 => ?_)
      subst q0
      exact go_sub [0] rfl hx
    · refine im (go_iinc (pc := 8) (Y := YX1_bits) 0 (v := (v2 + 1)) (ls2 := [(1, iV (v2 + 1)), (2, iV v3)]) dX1_bits_8 rfl rfl (Nat.le_of_ble_eq_true rfl) rfl) ?_
      refine im (go_iload_n (pc := 11) (Y := YX1_bits) 1 dX1_bits_11 rfl rfl) ?_
      refine im (go_iload_n (pc := 12) (Y := YX1_bits) 1 dX1_bits_12 rfl rfl) ?_
      refine im (go_iconst (pc := 13) (Y := YX1_bits) (v := 1) dX1_bits_13 rfl) ?_
      refine im (go_isub (pc := 14) (Y := YX1_bits) dX1_bits_14) ?_
      refine im (go_iand (pc := 15) (Y := YX1_bits) dX1_bits_15) ?_
      refine im (go_istore_n (pc := 16) (Y := YX1_bits) (ls2 := [(2, iV (v3 &&& (v3 - 1))), (1, iV (v2 + 1))]) dX1_bits_16 rfl (Nat.le_of_ble_eq_true rfl) rfl) ?_
      refine im (go_goto (pc := 17) (Y := YX1_bits) 4 dX1_bits_17 (by decide)) ?_
      exact fun hq => go_sub [1, 0] rfl (ih _ _ _ hq hx)
theorem mX1_bits {G : gG} (s0 : St) {p0 : Int32} {vE : Int32} (h : sX1_bits s0 p0 = some vE) : Mt G YX1_bits yX1_bits [iV p0] s0 (some (iV vE)) s0 := by
  refine go_start (ls0 := [(0, iV p0)]) (by decide +kernel) rfl (fun h => by cases h) (Nat.le_of_ble_eq_true rfl) rfl ?_
  revert h
  unfold sX1_bits
  refine im (go_iconst (pc := 0) (Y := YX1_bits) (v := 0) dX1_bits_0 rfl) ?_
  refine im (go_istore_n (pc := 1) (Y := YX1_bits) (ls2 := [(1, iV 0), (0, iV p0)]) dX1_bits_1 rfl (Nat.le_of_ble_eq_true rfl) rfl) ?_
  refine im (go_iload_n (pc := 2) (Y := YX1_bits) 1 dX1_bits_2 rfl rfl) ?_
  refine im (go_istore_n (pc := 3) (Y := YX1_bits) (ls2 := [(2, iV p0), (1, iV 0), (0, iV p0)]) dX1_bits_3 rfl (Nat.le_of_ble_eq_true rfl) rfl) ?_
  refine bpg (fun v5 he6 h7 => ?_)
  refine go_sub [1, 0] rfl (sX1_bits_L4_go s0 FU _ _ _ he6 ?_)
  clear he6
  revert h7
  refine im (go_iload_n (pc := 20) (Y := YX1_bits) 0 dX1_bits_20 rfl rfl) ?_
  refine e1 (fun q0 => ?_)
  subst q0
  exact go_iret (pc := 21) (Y := YX1_bits) rfl dX1_bits_21
abbrev YX1_nurse : mY := (RX1, cX1_nurse, 5, (Option.some .int), 9, 206, false)
theorem YOK_X1_nurse : YOK yX1_nurse 0 := ⟨⟨by decide +kernel, by decide +kernel⟩, by decide +kernel⟩
theorem sX1_nurse_L30_go {G : gG} {s0 sE : St} {rE : Option V3} (this : Nat) : ∀ (n : Nat) (s13 : St) (v14 : Int32) (v15 : Int32) (v16 : Int32) (s17 : St) (v18 : Int32), sX1_nurse_L30 this n s13 v14 v15 v16 = some (s17, v18) → Go G YX1_nurse s0 sE rE 76 [(0, rV (some this)), (2, iV v18)] [] s17 → Go G YX1_nurse s0 sE rE 30 [(0, rV (some this)), (1, iV v14), (2, iV v15), (3, iV v16)] [] s13 := by
  intro n
  induction n with
  | zero => intro s13 v14 v15 v16 s17 v18 h hx; rw [sX1_nurse_L30] at h; cases h
  | succ n ih =>
    intro s13 v14 v15 v16 s17 v18 h hx
    revert h
    rw [sX1_nurse_L30]
    refine im (go_iload_n (pc := 30) (Y := YX1_nurse) 3 dX1_nurse_30 rfl rfl) ?_
    refine im (go_aload_n (pc := 31) (Y := YX1_nurse) 0 dX1_nurse_31 rfl rfl) ?_
    refine kdg (fun k19 => ?_)
    refine bpg (fun v20 he21 => ?_)
    refine im (go_callV (pc := 32) (Y := YX1_nurse) (Yc := YX1_people) (y := yX1_people) (n := 0) (c0 := 0) (q := (RX1, TX1, 25)) this [] [iV v16] rfl rfl k19 (mX1_people s13 he21) YOK_X1_people rfl q1122 q129 q1121 qs31 q1119 (Nat.le_of_ble_eq_true rfl) (Nat.le_of_ble_eq_true rfl) (Nat.le_of_ble_eq_true rfl) dX1_nurse_32 (st2 := [iV v20, iV v16]) rfl) ?_
    clear he21
    refine flp2 (go_icmp_ge (pc := 35) (Y := YX1_nurse) 76 dX1_nurse_35 (by decide)) ?_ ?_
    · refine e2 (fun q0 q1 => ?_)
      subst q0
      subst q1
      exact go_sub [0, 2] rfl hx
    · refine im (go_aload_n (pc := 38) (Y := YX1_nurse) 0 dX1_nurse_38 rfl rfl) ?_
      refine im (go_iload_n (pc := 39) (Y := YX1_nurse) 3 dX1_nurse_39 rfl rfl) ?_
      refine flp (go_pI (pc := 40) (Y := YX1_nurse) fF4 (by decide) q206 (Or.inl rfl) (Or.inl rfl) rfl rfl rfl dX1_nurse_40) (fun s22 => ?_)
      refine im (go_aload_n (pc := 43) (Y := YX1_nurse) 0 dX1_nurse_43 rfl rfl) ?_
      refine im (go_aload_n (pc := 44) (Y := YX1_nurse) 0 dX1_nurse_44 rfl rfl) ?_
      refine flp (go_gR (pc := 45) (Y := YX1_nurse) fF1002 (by decide) q202 (Or.inl rfl) dX1_nurse_45) (fun v23 => ?_)
      refine kdg (fun k24 => ?_)
      refine bdg (fun s25 v26 he27 => ?_)
      refine im (go_callV (pc := 48) (Y := YX1_nurse) (Yc := YX1_stoppedOn) (y := yX1_stoppedOn) (n := 1) (c0 := 0) (q := (RX1, TX1, 25)) this [rV v23] [] rfl rfl k24 (mX1_stoppedOn s22 he27) YOK_X1_stoppedOn rfl q1311 q129 q1310 qs45 q1308 (Nat.le_of_ble_eq_true rfl) (Nat.le_of_ble_eq_true rfl) (Nat.le_of_ble_eq_true rfl) dX1_nurse_48 (st2 := [iV v26]) rfl) ?_
      clear he27
      refine bpg (fun v28 he29 => ?_)
      refine im (go_callS (pc := 51) (Y := YX1_nurse) (Yc := YX1_bits) (y := yX1_bits) (n := 1) [iV v26] [] rfl (mX1_bits s25 he29) YOK_X1_bits rfl q1314 q129 q1313 q1312 (Nat.le_of_ble_eq_true rfl) (Nat.le_of_ble_eq_true rfl) (Nat.le_of_ble_eq_true rfl) dX1_nurse_51 (st2 := [iV v28]) rfl) ?_
      clear he29
      refine im (go_istore (pc := 54) (Y := YX1_nurse) (ls2 := [(4, iV v28), (0, rV (some this)), (1, iV v14), (2, iV v15), (3, iV v16)]) dX1_nurse_54 (Nat.le_of_ble_eq_true rfl) rfl) ?_
      refine im (go_iload (pc := 56) (Y := YX1_nurse) 0 dX1_nurse_56 rfl) ?_
      refine im (go_iload_n (pc := 58) (Y := YX1_nurse) 2 dX1_nurse_58 rfl rfl) ?_
      refine b2g (fun v30 v31 he32 h33 => ?_)
      have hj70 : Go G YX1_nurse s0 sE rE 70 [(0, rV (some this)), (1, iV v30), (2, iV v31), (3, iV v16)] [] s25 := by
        clear he32
        revert h33
        refine im (go_iinc (pc := 70) (Y := YX1_nurse) 3 (v := (v16 + 1)) (ls2 := [(3, iV (v16 + 1)), (0, rV (some this)), (1, iV v30), (2, iV v31)]) dX1_nurse_70 rfl rfl (Nat.le_of_ble_eq_true rfl) rfl) ?_
        refine im (go_goto (pc := 73) (Y := YX1_nurse) 30 dX1_nurse_73 (by decide)) ?_
        exact fun hq => go_sub [1, 2, 3, 0] rfl (ih _ _ _ _ _ _ hq hx)
      clear h33
      revert he32
      refine flp2 (go_icmp_gt (pc := 59) (Y := YX1_nurse) 65 dX1_nurse_59 (by decide)) ?_ ?_
      · refine im (go_iload (pc := 65) (Y := YX1_nurse) 0 dX1_nurse_65 rfl) ?_
        refine im (go_istore_n (pc := 67) (Y := YX1_nurse) (ls2 := [(1, iV v28), (4, iV v28), (0, rV (some this)), (2, iV v15), (3, iV v16)]) dX1_nurse_67 rfl (Nat.le_of_ble_eq_true rfl) rfl) ?_
        refine im (go_iload_n (pc := 68) (Y := YX1_nurse) 4 dX1_nurse_68 rfl rfl) ?_
        refine im (go_istore_n (pc := 69) (Y := YX1_nurse) (ls2 := [(2, iV v16), (1, iV v28), (4, iV v28), (0, rV (some this)), (3, iV v16)]) dX1_nurse_69 rfl (Nat.le_of_ble_eq_true rfl) rfl) ?_
        refine e2 (fun q0 q1 => ?_)
        subst q0
        subst q1
        exact go_sub [3, 1, 0, 4] rfl hj70
      · refine im (go_goto (pc := 62) (Y := YX1_nurse) 70 dX1_nurse_62 (by decide)) ?_
        refine e2 (fun q0 q1 => ?_)
        subst q0
        subst q1
        exact go_sub [1, 2, 3, 4] rfl hj70
theorem mX1_nurse {G : gG} (s0 : St) {this : Nat} {sE : St} {vE : Int32} (h : sX1_nurse s0 this = some (sE, vE)) : Mt G YX1_nurse yX1_nurse [rV (some this)] s0 (some (iV vE)) sE := by
  refine go_start (ls0 := [(0, rV (some this))]) (by decide +kernel) rfl (fun h => by cases h) (Nat.le_of_ble_eq_true rfl) rfl ?_
  revert h
  unfold sX1_nurse
  refine im (go_aload_n (pc := 0) (Y := YX1_nurse) 0 dX1_nurse_0 rfl rfl) ?_
  refine flp (go_gR (pc := 1) (Y := YX1_nurse) fF1001 (by decide) q201 (Or.inl rfl) dX1_nurse_1) (fun v1 => ?_)
  refine flp2 (go_ifnonnull (pc := 4) (Y := YX1_nurse) 13 dX1_nurse_4 (by decide)) ?_ ?_
  · refine im (go_aload_n (pc := 7) (Y := YX1_nurse) 0 dX1_nurse_7 rfl rfl) ?_
    refine im (go_iconst (pc := 8) (Y := YX1_nurse) (v := 1) dX1_nurse_8 rfl) ?_
    refine kdg (fun k2 => ?_)
    refine bdg (fun s3 v4 he5 => ?_)
    refine im (go_callV (pc := 9) (Y := YX1_nurse) (Yc := YX1_refused) (y := yX1_refused) (n := 1) (c0 := 0) (q := (RX1, TX1, 25)) this [iV 1] [] rfl rfl k2 (mX1_refused s0 he5) YOK_X1_refused rfl q288 q129 q287 qs0 q285 (Nat.le_of_ble_eq_true rfl) (Nat.le_of_ble_eq_true rfl) (Nat.le_of_ble_eq_true rfl) dX1_nurse_9 (st2 := [iV v4]) rfl) ?_
    clear he5
    refine e2 (fun q0 q1 => ?_)
    subst q0
    subst q1
    exact go_iret (pc := 12) (Y := YX1_nurse) rfl dX1_nurse_12
  · refine im (go_aload_n (pc := 13) (Y := YX1_nurse) 0 dX1_nurse_13 rfl rfl) ?_
    refine im (go_aload_n (pc := 14) (Y := YX1_nurse) 0 dX1_nurse_14 rfl rfl) ?_
    refine flp (go_gR (pc := 15) (Y := YX1_nurse) fF1002 (by decide) q202 (Or.inl rfl) dX1_nurse_15) (fun v6 => ?_)
    refine kdg (fun k7 => ?_)
    refine bdg (fun s8 v9 he10 => ?_)
    refine im (go_callV (pc := 18) (Y := YX1_nurse) (Yc := YX1_stoppedOn) (y := yX1_stoppedOn) (n := 1) (c0 := 0) (q := (RX1, TX1, 25)) this [rV v6] [] rfl rfl k7 (mX1_stoppedOn s0 he10) YOK_X1_stoppedOn rfl q1311 q129 q1310 qs45 q1308 (Nat.le_of_ble_eq_true rfl) (Nat.le_of_ble_eq_true rfl) (Nat.le_of_ble_eq_true rfl) dX1_nurse_18 (st2 := [iV v9]) rfl) ?_
    clear he10
    refine bpg (fun v11 he12 => ?_)
    refine im (go_callS (pc := 21) (Y := YX1_nurse) (Yc := YX1_bits) (y := yX1_bits) (n := 1) [iV v9] [] rfl (mX1_bits s8 he12) YOK_X1_bits rfl q1314 q129 q1313 q1312 (Nat.le_of_ble_eq_true rfl) (Nat.le_of_ble_eq_true rfl) (Nat.le_of_ble_eq_true rfl) dX1_nurse_21 (st2 := [iV v11]) rfl) ?_
    clear he12
    refine im (go_istore_n (pc := 24) (Y := YX1_nurse) (ls2 := [(1, iV v11), (0, rV (some this))]) dX1_nurse_24 rfl (Nat.le_of_ble_eq_true rfl) rfl) ?_
    refine im (go_bipush (pc := 25) (Y := YX1_nurse) (v := -2) dX1_nurse_25 rfl) ?_
    refine im (go_istore_n (pc := 27) (Y := YX1_nurse) (ls2 := [(2, iV (-2)), (1, iV v11), (0, rV (some this))]) dX1_nurse_27 rfl (Nat.le_of_ble_eq_true rfl) rfl) ?_
    refine im (go_iconst (pc := 28) (Y := YX1_nurse) (v := 0) dX1_nurse_28 rfl) ?_
    refine im (go_istore_n (pc := 29) (Y := YX1_nurse) (ls2 := [(3, iV 0), (2, iV (-2)), (1, iV v11), (0, rV (some this))]) dX1_nurse_29 rfl (Nat.le_of_ble_eq_true rfl) rfl) ?_
    refine b2g (fun s34 v35 he41 h42 => ?_)
    refine go_sub [3, 2, 1, 0] rfl (sX1_nurse_L30_go this FU _ _ _ _ _ _ he41 ?_)
    clear he41
    revert h42
    refine im (go_aload_n (pc := 76) (Y := YX1_nurse) 0 dX1_nurse_76 rfl rfl) ?_
    refine im (go_iconst (pc := 77) (Y := YX1_nurse) (v := -1) dX1_nurse_77 rfl) ?_
    refine flp (go_pI (pc := 78) (Y := YX1_nurse) fF4 (by decide) q206 (Or.inl rfl) (Or.inl rfl) rfl rfl rfl dX1_nurse_78) (fun s36 => ?_)
    refine im (go_aload_n (pc := 81) (Y := YX1_nurse) 0 dX1_nurse_81 rfl rfl) ?_
    refine im (go_iload_n (pc := 82) (Y := YX1_nurse) 1 dX1_nurse_82 rfl rfl) ?_
    refine kdg (fun k37 => ?_)
    refine bdg (fun s38 v39 he40 => ?_)
    refine im (go_callV (pc := 83) (Y := YX1_nurse) (Yc := YX1_well) (y := yX1_well) (n := 1) (c0 := 0) (q := (RX1, TX1, 25)) this [iV v35] [] rfl rfl k37 (mX1_well s36 he40) YOK_X1_well rfl q1102 q129 q1101 qs29 q1099 (Nat.le_of_ble_eq_true rfl) (Nat.le_of_ble_eq_true rfl) (Nat.le_of_ble_eq_true rfl) dX1_nurse_83 (st2 := [iV v39]) rfl) ?_
    clear he40
    refine e2 (fun q0 q1 => ?_)
    subst q0
    subst q1
    exact go_iret (pc := 86) (Y := YX1_nurse) rfl dX1_nurse_86
abbrev YX1_endsIf : mY := (RX1, cX1_endsIf, 5, (Option.some .int), 7, 161, false)
theorem YOK_X1_endsIf : YOK yX1_endsIf 3 := ⟨⟨by decide +kernel, by decide +kernel⟩, by decide +kernel⟩
theorem mX1_endsIf {G : gG} (s0 : St) {this : Nat} {p0 : Int32} {p1 : Int32} {p2 : Int32} {sE : St} {vE : Int32} (h : sX1_endsIf s0 this p0 p1 p2 = some (sE, vE)) : Mt G YX1_endsIf yX1_endsIf [rV (some this), iV p0, iV p1, iV p2] s0 (some (iV vE)) sE := by
  refine go_start (ls0 := [(0, rV (some this)), (1, iV p0), (2, iV p1), (3, iV p2)]) (by decide +kernel) rfl (fun h => by cases h) (Nat.le_of_ble_eq_true rfl) rfl ?_
  revert h
  unfold sX1_endsIf
  refine im (go_aload_n (pc := 0) (Y := YX1_endsIf) 0 dX1_endsIf_0 rfl rfl) ?_
  refine im (go_aload_n (pc := 1) (Y := YX1_endsIf) 0 dX1_endsIf_1 rfl rfl) ?_
  refine im (go_iload_n (pc := 2) (Y := YX1_endsIf) 1 dX1_endsIf_2 rfl rfl) ?_
  refine kdg (fun k1 => ?_)
  refine bpg (fun v2 he3 => ?_)
  refine im (go_callV (pc := 3) (Y := YX1_endsIf) (Yc := YX1_isQuarrel) (y := yX1_isQuarrel) (n := 1) (c0 := 0) (q := (RX1, TX1, 25)) this [iV p0] [rV (some this)] rfl rfl k1 (mX1_isQuarrel s0 he3) YOK_X1_isQuarrel rfl q1184 q129 q1183 qs36 q1181 (Nat.le_of_ble_eq_true rfl) (Nat.le_of_ble_eq_true rfl) (Nat.le_of_ble_eq_true rfl) dX1_endsIf_3 (st2 := [iV v2, rV (some this)]) rfl) ?_
  clear he3
  refine bpg (fun v4 he24 h25 => ?_)
  have hj22 : Go G YX1_endsIf s0 sE (some (iV vE)) 22 [(0, rV (some this)), (1, iV p0), (2, iV p1), (3, iV p2)] [iV v4, rV (some this)] s0 := by
    clear he24
    revert h25
    refine im (go_iload_n (pc := 22) (Y := YX1_endsIf) 3 dX1_endsIf_22 rfl rfl) ?_
    refine im (go_iconst (pc := 23) (Y := YX1_endsIf) (v := 0) dX1_endsIf_23 rfl) ?_
    refine im (go_bipush (pc := 24) (Y := YX1_endsIf) (v := 59) dX1_endsIf_24 rfl) ?_
    refine kdg (fun k5 => ?_)
    refine bpg (fun v6 he7 => ?_)
    refine im (go_callV (pc := 26) (Y := YX1_endsIf) (Yc := YX1_why) (y := yX1_why) (n := 4) (c0 := 0) (q := (RX1, TX1, 25)) this [iV v4, iV p2, iV 0, iV 59] [] rfl rfl k5 (mX1_why s0 he7) YOK_X1_why rfl q1192 q129 q1191 qs37 q1189 (Nat.le_of_ble_eq_true rfl) (Nat.le_of_ble_eq_true rfl) (Nat.le_of_ble_eq_true rfl) dX1_endsIf_26 (st2 := [iV v6]) rfl) ?_
    clear he7
    refine im (go_istore (pc := 29) (Y := YX1_endsIf) (ls2 := [(4, iV v6), (0, rV (some this)), (1, iV p0), (2, iV p1), (3, iV p2)]) dX1_endsIf_29 (Nat.le_of_ble_eq_true rfl) rfl) ?_
    refine im (go_iload (pc := 31) (Y := YX1_endsIf) 0 dX1_endsIf_31 rfl) ?_
    refine flp2 (go_if_le (pc := 33) (Y := YX1_endsIf) 45 dX1_endsIf_33 (by decide)) ?_ ?_
    · refine im (go_aload_n (pc := 45) (Y := YX1_endsIf) 1 dX1_endsIf_45 rfl rfl) ?_
      refine im (go_aload_n (pc := 46) (Y := YX1_endsIf) 1 dX1_endsIf_46 rfl rfl) ?_
      refine im (go_aload_n (pc := 47) (Y := YX1_endsIf) 1 dX1_endsIf_47 rfl rfl) ?_
      refine flp (go_gR (pc := 48) (Y := YX1_endsIf) fF1002 (by decide) q202 (Or.inl rfl) dX1_endsIf_48) (fun v8 => ?_)
      refine im (go_iload_n (pc := 51) (Y := YX1_endsIf) 2 dX1_endsIf_51 rfl rfl) ?_
      refine im (go_iload_n (pc := 52) (Y := YX1_endsIf) 3 dX1_endsIf_52 rfl rfl) ?_
      refine im (go_iload_n (pc := 53) (Y := YX1_endsIf) 4 dX1_endsIf_53 rfl rfl) ?_
      refine kdg (fun k9 => ?_)
      refine bdg (fun s10 v11 he12 => ?_)
      refine im (go_callV (pc := 54) (Y := YX1_endsIf) (Yc := YX1_brawls) (y := yX1_brawls) (n := 4) (c0 := 0) (q := (RX1, TX1, 25)) this [rV v8, iV p0, iV p1, iV p2] [rV (some this)] rfl rfl k9 (mX1_brawls s0 he12) YOK_X1_brawls rfl q1270 q129 q1269 qs43 q1267 (Nat.le_of_ble_eq_true rfl) (Nat.le_of_ble_eq_true rfl) (Nat.le_of_ble_eq_true rfl) dX1_endsIf_54 (st2 := [iV v11, rV (some this)]) rfl) ?_
      clear he12
      refine kdg (fun k13 => ?_)
      refine bdg (fun s14 v15 he16 => ?_)
      refine im (go_callV (pc := 57) (Y := YX1_endsIf) (Yc := YX1_well) (y := yX1_well) (n := 1) (c0 := 0) (q := (RX1, TX1, 25)) this [iV v11] [] rfl rfl k13 (mX1_well s10 he16) YOK_X1_well rfl q1102 q129 q1101 qs29 q1099 (Nat.le_of_ble_eq_true rfl) (Nat.le_of_ble_eq_true rfl) (Nat.le_of_ble_eq_true rfl) dX1_endsIf_57 (st2 := [iV v15]) rfl) ?_
      clear he16
      refine e2 (fun q0 q1 => ?_)
      subst q0
      subst q1
      exact go_iret (pc := 60) (Y := YX1_endsIf) rfl dX1_endsIf_60
    · refine im (go_aload_n (pc := 36) (Y := YX1_endsIf) 1 dX1_endsIf_36 rfl rfl) ?_
      refine im (go_iload (pc := 37) (Y := YX1_endsIf) 0 dX1_endsIf_37 rfl) ?_
      refine kdg (fun k17 => ?_)
      refine bdg (fun s18 v19 he20 => ?_)
      refine im (go_callV (pc := 39) (Y := YX1_endsIf) (Yc := YX1_refused) (y := yX1_refused) (n := 1) (c0 := 0) (q := (RX1, TX1, 25)) this [iV v6] [] rfl rfl k17 (mX1_refused s0 he20) YOK_X1_refused rfl q288 q129 q287 qs0 q285 (Nat.le_of_ble_eq_true rfl) (Nat.le_of_ble_eq_true rfl) (Nat.le_of_ble_eq_true rfl) dX1_endsIf_39 (st2 := [iV v19]) rfl) ?_
      clear he20
      refine im (go_goto (pc := 42) (Y := YX1_endsIf) 60 dX1_endsIf_42 (by decide)) ?_
      refine e2 (fun q0 q1 => ?_)
      subst q0
      subst q1
      exact go_iret (pc := 60) (Y := YX1_endsIf) rfl dX1_endsIf_60
  clear h25
  revert he24
  refine flp2 (go_if_eq (pc := 6) (Y := YX1_endsIf) 21 dX1_endsIf_6 (by decide)) ?_ ?_
  · refine im (go_iconst (pc := 21) (Y := YX1_endsIf) (v := 0) dX1_endsIf_21 rfl) ?_
    refine e1 (fun q0 => ?_)
    subst q0
    exact go_sub [0, 1, 2, 3] rfl hj22
  · refine im (go_aload_n (pc := 9) (Y := YX1_endsIf) 0 dX1_endsIf_9 rfl rfl) ?_
    refine im (go_iload_n (pc := 10) (Y := YX1_endsIf) 2 dX1_endsIf_10 rfl rfl) ?_
    refine kdg (fun k21 => ?_)
    refine bpg (fun v22 he23 => ?_)
    refine im (go_callV (pc := 11) (Y := YX1_endsIf) (Yc := YX1_isPlace) (y := yX1_isPlace) (n := 1) (c0 := 0) (q := (RX1, TX1, 25)) this [iV p1] [rV (some this)] rfl rfl k21 (mX1_isPlace s0 he23) YOK_X1_isPlace rfl q1213 q129 q1212 qs38 q1210 (Nat.le_of_ble_eq_true rfl) (Nat.le_of_ble_eq_true rfl) (Nat.le_of_ble_eq_true rfl) dX1_endsIf_11 (st2 := [iV v22, rV (some this)]) rfl) ?_
    clear he23
    refine flp2 (go_if_eq (pc := 14) (Y := YX1_endsIf) 21 dX1_endsIf_14 (by decide)) ?_ ?_
    · refine im (go_iconst (pc := 21) (Y := YX1_endsIf) (v := 0) dX1_endsIf_21 rfl) ?_
      refine e1 (fun q0 => ?_)
      subst q0
      exact go_sub [0, 1, 2, 3] rfl hj22
    · refine im (go_iconst (pc := 17) (Y := YX1_endsIf) (v := 1) dX1_endsIf_17 rfl) ?_
      refine im (go_goto (pc := 18) (Y := YX1_endsIf) 22 dX1_endsIf_18 (by decide)) ?_
      refine e1 (fun q0 => ?_)
      subst q0
      exact go_sub [0, 1, 2, 3] rfl hj22
abbrev YX1_isWon : mY := (RX1, cX1_isWon, 1, (Option.some .boolean), 0, 0, false)
theorem YOK_X1_isWon : YOK yX1_isWon 1 := ⟨⟨by decide +kernel, by decide +kernel⟩, by decide +kernel⟩
theorem mX1_isWon {G : gG} (s0 : St) {p0 : Int32} {vE : Int32} (h : sX1_isWon s0 p0 = some vE) : Mt G YX1_isWon yX1_isWon [iV p0] s0 (some (iV vE)) s0 := by
  refine go_start (ls0 := [(0, iV p0)]) (by decide +kernel) rfl (fun h => by cases h) (Nat.le_of_ble_eq_true rfl) rfl ?_
  revert h
  unfold sX1_isWon
  refine im (go_iload_n (pc := 0) (Y := YX1_isWon) 0 dX1_isWon_0 rfl rfl) ?_
  refine flp2 (go_if_le (pc := 1) (Y := YX1_isWon) 8 dX1_isWon_1 (by decide)) ?_ ?_
  · refine im (go_iconst (pc := 8) (Y := YX1_isWon) (v := 0) dX1_isWon_8 rfl) ?_
    refine e1 (fun q0 => ?_)
    subst q0
    exact go_zret (pc := 9) (Y := YX1_isWon) rfl rfl dX1_isWon_9
  · refine im (go_iconst (pc := 4) (Y := YX1_isWon) (v := 1) dX1_isWon_4 rfl) ?_
    refine im (go_goto (pc := 5) (Y := YX1_isWon) 9 dX1_isWon_5 (by decide)) ?_
    refine e1 (fun q0 => ?_)
    subst q0
    exact go_zret (pc := 9) (Y := YX1_isWon) rfl rfl dX1_isWon_9
abbrev YX1_cellars : mY := (RX1, cX1_cellars, 4, (Option.some .int), 7, 161, false)
theorem YOK_X1_cellars : YOK yX1_cellars 1 := ⟨⟨by decide +kernel, by decide +kernel⟩, by decide +kernel⟩
theorem sX1_cellars_L18_go {G : gG} {s0 sE : St} {rE : Option V3} (this : Nat) (i1 : Int32) : ∀ (n : Nat) (s8 : St) (v9 : Int32) (v10 : Int32) (s11 : St) (v12 : Int32), sX1_cellars_L18 this i1 n s8 v9 v10 = some (s11, v12) → Go G YX1_cellars s0 sE rE 69 [(0, rV (some this)), (2, iV v12)] [] s11 → Go G YX1_cellars s0 sE rE 18 [(0, rV (some this)), (1, iV i1), (2, iV v9), (3, iV v10)] [] s8 := by
  intro n
  induction n with
  | zero => intro s8 v9 v10 s11 v12 h hx; rw [sX1_cellars_L18] at h; cases h
  | succ n ih =>
    intro s8 v9 v10 s11 v12 h hx
    revert h
    rw [sX1_cellars_L18]
    refine im (go_iload_n (pc := 18) (Y := YX1_cellars) 3 dX1_cellars_18 rfl rfl) ?_
    refine im (go_aload_n (pc := 19) (Y := YX1_cellars) 0 dX1_cellars_19 rfl rfl) ?_
    refine kdg (fun k13 => ?_)
    refine bpg (fun v14 he15 => ?_)
    refine im (go_callV (pc := 20) (Y := YX1_cellars) (Yc := YX1_places) (y := yX1_places) (n := 0) (c0 := 0) (q := (RX1, TX1, 25)) this [] [iV v10] rfl rfl k13 (mX1_places s8 he15) YOK_X1_places rfl q1097 q129 q1096 qs28 q1094 (Nat.le_of_ble_eq_true rfl) (Nat.le_of_ble_eq_true rfl) (Nat.le_of_ble_eq_true rfl) dX1_cellars_20 (st2 := [iV v14, iV v10]) rfl) ?_
    clear he15
    refine flp2 (go_icmp_ge (pc := 23) (Y := YX1_cellars) 69 dX1_cellars_23 (by decide)) ?_ ?_
    · refine e2 (fun q0 q1 => ?_)
      subst q0
      subst q1
      exact go_sub [0, 2] rfl hx
    · refine im (go_iload_n (pc := 26) (Y := YX1_cellars) 2 dX1_cellars_26 rfl rfl) ?_
      refine im (go_aload_n (pc := 27) (Y := YX1_cellars) 0 dX1_cellars_27 rfl rfl) ?_
      refine im (go_aload_n (pc := 28) (Y := YX1_cellars) 0 dX1_cellars_28 rfl rfl) ?_
      refine flp (go_gR (pc := 29) (Y := YX1_cellars) fF1002 (by decide) q202 (Or.inl rfl) dX1_cellars_29) (fun v16 => ?_)
      refine im (go_iload_n (pc := 32) (Y := YX1_cellars) 1 dX1_cellars_32 rfl rfl) ?_
      refine im (go_iload_n (pc := 33) (Y := YX1_cellars) 3 dX1_cellars_33 rfl rfl) ?_
      refine im (go_aload_n (pc := 34) (Y := YX1_cellars) 0 dX1_cellars_34 rfl rfl) ?_
      refine flp (go_gR (pc := 35) (Y := YX1_cellars) fF1001 (by decide) q201 (Or.inl rfl) dX1_cellars_35) (fun v17 => ?_)
      refine im (go_iload_n (pc := 38) (Y := YX1_cellars) 1 dX1_cellars_38 rfl rfl) ?_
      refine ivg (fun w18 r19 k20 => ?_)
      refine bpg (fun v21 he22 => ?_)
      refine im (go_callV (pc := 39) (Y := YX1_cellars) (Yc := YX5_quarrel) (y := yX5_quarrel) (n := 1) (c0 := 5) (q := (RX5, TX5, 10)) w18 [iV i1] [iV v10, iV i1, rV v16, rV (some this), iV v9] (by rw [r19]; rfl) rfl k20 (mX5_quarrel s8 he22) YOK_X5_quarrel rfl q1043 q136 q1041 q1042 q1159 (Nat.le_of_ble_eq_true rfl) (Nat.le_of_ble_eq_true rfl) (Nat.le_of_ble_eq_true rfl) dX1_cellars_39 (st2 := [rV v21, iV v10, iV i1, rV v16, rV (some this), iV v9]) rfl) ?_
      clear he22
      refine flp (go_gI (pc := 42) (Y := YX1_cellars) fF74 (by decide) q1005 (Or.inl rfl) dX1_cellars_42) (fun v23 => ?_)
      refine kdg (fun k24 => ?_)
      refine bdg (fun s25 v26 he27 => ?_)
      refine im (go_callV (pc := 45) (Y := YX1_cellars) (Yc := YX1_brawls) (y := yX1_brawls) (n := 4) (c0 := 0) (q := (RX1, TX1, 25)) this [rV v16, iV i1, iV v10, iV v23] [iV v9] rfl rfl k24 (mX1_brawls s8 he27) YOK_X1_brawls rfl q1270 q129 q1269 qs43 q1267 (Nat.le_of_ble_eq_true rfl) (Nat.le_of_ble_eq_true rfl) (Nat.le_of_ble_eq_true rfl) dX1_cellars_45 (st2 := [iV v26, iV v9]) rfl) ?_
      clear he27
      refine bpg (fun v28 he29 => ?_)
      refine im (go_callS (pc := 48) (Y := YX1_cellars) (Yc := YX1_isWon) (y := yX1_isWon) (n := 1) [iV v26] [iV v9] rfl (mX1_isWon s25 he29) YOK_X1_isWon rfl q1325 q129 q1324 q1323 (Nat.le_of_ble_eq_true rfl) (Nat.le_of_ble_eq_true rfl) (Nat.le_of_ble_eq_true rfl) dX1_cellars_48 (st2 := [iV v28, iV v9]) rfl) ?_
      clear he29
      refine bpg (fun v30 he31 h32 => ?_)
      have hj61 : Go G YX1_cellars s0 sE rE 61 [(0, rV (some this)), (1, iV i1), (3, iV v10)] [iV v30, iV v9] s25 := by
        clear he31
        revert h32
        refine im (go_ior (pc := 61) (Y := YX1_cellars) dX1_cellars_61) ?_
        refine im (go_istore_n (pc := 62) (Y := YX1_cellars) (ls2 := [(2, iV (v9 ||| v30)), (0, rV (some this)), (1, iV i1), (3, iV v10)]) dX1_cellars_62 rfl (Nat.le_of_ble_eq_true rfl) rfl) ?_
        refine im (go_iinc (pc := 63) (Y := YX1_cellars) 3 (v := (v10 + 1)) (ls2 := [(3, iV (v10 + 1)), (2, iV (v9 ||| v30)), (0, rV (some this)), (1, iV i1)]) dX1_cellars_63 rfl rfl (Nat.le_of_ble_eq_true rfl) rfl) ?_
        refine im (go_goto (pc := 66) (Y := YX1_cellars) 18 dX1_cellars_66 (by decide)) ?_
        exact fun hq => go_sub [2, 3, 1, 0] rfl (ih _ _ _ _ _ hq hx)
      clear h32
      revert he31
      refine flp2 (go_if_eq (pc := 51) (Y := YX1_cellars) 60 dX1_cellars_51 (by decide)) ?_ ?_
      · refine im (go_iconst (pc := 60) (Y := YX1_cellars) (v := 0) dX1_cellars_60 rfl) ?_
        refine e1 (fun q0 => ?_)
        subst q0
        exact go_sub [0, 1, 3] rfl hj61
      · refine im (go_iconst (pc := 54) (Y := YX1_cellars) (v := 1) dX1_cellars_54 rfl) ?_
        refine im (go_iload_n (pc := 55) (Y := YX1_cellars) 3 dX1_cellars_55 rfl rfl) ?_
        refine im (go_ishl (pc := 56) (Y := YX1_cellars) dX1_cellars_56) ?_
        refine im (go_goto (pc := 57) (Y := YX1_cellars) 61 dX1_cellars_57 (by decide)) ?_
        refine e1 (fun q0 => ?_)
        subst q0
        exact go_sub [0, 1, 3] rfl hj61
theorem mX1_cellars {G : gG} (s0 : St) {this : Nat} {p0 : Int32} {sE : St} {vE : Int32} (h : sX1_cellars s0 this p0 = some (sE, vE)) : Mt G YX1_cellars yX1_cellars [rV (some this), iV p0] s0 (some (iV vE)) sE := by
  refine go_start (ls0 := [(0, rV (some this)), (1, iV p0)]) (by decide +kernel) rfl (fun h => by cases h) (Nat.le_of_ble_eq_true rfl) rfl ?_
  revert h
  unfold sX1_cellars
  refine im (go_aload_n (pc := 0) (Y := YX1_cellars) 0 dX1_cellars_0 rfl rfl) ?_
  refine im (go_iload_n (pc := 1) (Y := YX1_cellars) 1 dX1_cellars_1 rfl rfl) ?_
  refine kdg (fun k1 => ?_)
  refine bpg (fun v2 he3 => ?_)
  refine im (go_callV (pc := 2) (Y := YX1_cellars) (Yc := YX1_isQuarrel) (y := yX1_isQuarrel) (n := 1) (c0 := 0) (q := (RX1, TX1, 25)) this [iV p0] [] rfl rfl k1 (mX1_isQuarrel s0 he3) YOK_X1_isQuarrel rfl q1184 q129 q1183 qs36 q1181 (Nat.le_of_ble_eq_true rfl) (Nat.le_of_ble_eq_true rfl) (Nat.le_of_ble_eq_true rfl) dX1_cellars_2 (st2 := [iV v2]) rfl) ?_
  clear he3
  refine flp2 (go_if_ne (pc := 5) (Y := YX1_cellars) 14 dX1_cellars_5 (by decide)) ?_ ?_
  · refine im (go_aload_n (pc := 8) (Y := YX1_cellars) 0 dX1_cellars_8 rfl rfl) ?_
    refine im (go_iconst (pc := 9) (Y := YX1_cellars) (v := 1) dX1_cellars_9 rfl) ?_
    refine kdg (fun k4 => ?_)
    refine bdg (fun s5 v6 he7 => ?_)
    refine im (go_callV (pc := 10) (Y := YX1_cellars) (Yc := YX1_refused) (y := yX1_refused) (n := 1) (c0 := 0) (q := (RX1, TX1, 25)) this [iV 1] [] rfl rfl k4 (mX1_refused s0 he7) YOK_X1_refused rfl q288 q129 q287 qs0 q285 (Nat.le_of_ble_eq_true rfl) (Nat.le_of_ble_eq_true rfl) (Nat.le_of_ble_eq_true rfl) dX1_cellars_10 (st2 := [iV v6]) rfl) ?_
    clear he7
    refine e2 (fun q0 q1 => ?_)
    subst q0
    subst q1
    exact go_iret (pc := 13) (Y := YX1_cellars) rfl dX1_cellars_13
  · refine im (go_iconst (pc := 14) (Y := YX1_cellars) (v := 0) dX1_cellars_14 rfl) ?_
    refine im (go_istore_n (pc := 15) (Y := YX1_cellars) (ls2 := [(2, iV 0), (0, rV (some this)), (1, iV p0)]) dX1_cellars_15 rfl (Nat.le_of_ble_eq_true rfl) rfl) ?_
    refine im (go_iconst (pc := 16) (Y := YX1_cellars) (v := 0) dX1_cellars_16 rfl) ?_
    refine im (go_istore_n (pc := 17) (Y := YX1_cellars) (ls2 := [(3, iV 0), (2, iV 0), (0, rV (some this)), (1, iV p0)]) dX1_cellars_17 rfl (Nat.le_of_ble_eq_true rfl) rfl) ?_
    refine b2g (fun s33 v34 he39 h40 => ?_)
    refine go_sub [2, 3, 1, 0] rfl (sX1_cellars_L18_go this p0 FU _ _ _ _ _ he39 ?_)
    clear he39
    revert h40
    refine im (go_aload_n (pc := 69) (Y := YX1_cellars) 0 dX1_cellars_69 rfl rfl) ?_
    refine im (go_iload_n (pc := 70) (Y := YX1_cellars) 1 dX1_cellars_70 rfl rfl) ?_
    refine kdg (fun k35 => ?_)
    refine bdg (fun s36 v37 he38 => ?_)
    refine im (go_callV (pc := 71) (Y := YX1_cellars) (Yc := YX1_well) (y := yX1_well) (n := 1) (c0 := 0) (q := (RX1, TX1, 25)) this [iV v34] [] rfl rfl k35 (mX1_well s33 he38) YOK_X1_well rfl q1102 q129 q1101 qs29 q1099 (Nat.le_of_ble_eq_true rfl) (Nat.le_of_ble_eq_true rfl) (Nat.le_of_ble_eq_true rfl) dX1_cellars_71 (st2 := [iV v37]) rfl) ?_
    clear he38
    refine e2 (fun q0 q1 => ?_)
    subst q0
    subst q1
    exact go_iret (pc := 74) (Y := YX1_cellars) rfl dX1_cellars_74
abbrev YX1_hour : mY := (RX1, cX1_hour, 3, (Option.some .int), 7, 161, false)
theorem YOK_X1_hour : YOK yX1_hour 1 := ⟨⟨by decide +kernel, by decide +kernel⟩, by decide +kernel⟩
theorem sX1_hour_L16_go {G : gG} {s0 : St} {sE : St} {vE : Int32} (this : Nat) (i1 : Int32) : ∀ (n : Nat) (s8 : St) (v9 : Int32) (o : (St × Int32) ⊕ (St)), sX1_hour_L16 this i1 n s8 v9 = some o → (∀ r, o = .inl r → r = (sE, vE)) → (∀ (s10 : St), o = .inr s10 → Go G YX1_hour s0 sE (some (iV vE)) 61 [(0, rV (some this))] [] s10) → Go G YX1_hour s0 sE (some (iV vE)) 16 [(0, rV (some this)), (1, iV i1), (2, iV v9)] [] s8 := by
  intro n
  induction n with
  | zero => intro s8 v9 o h hr hx; rw [sX1_hour_L16] at h; cases h
  | succ n ih =>
    intro s8 v9 o h hr hx
    revert h
    rw [sX1_hour_L16]
    refine im (go_iload_n (pc := 16) (Y := YX1_hour) 2 dX1_hour_16 rfl rfl) ?_
    refine im (go_bipush (pc := 17) (Y := YX1_hour) (v := 59) dX1_hour_17 rfl) ?_
    refine flp2 (go_icmp_gt (pc := 19) (Y := YX1_hour) 61 dX1_hour_19 (by decide)) ?_ ?_
    · refine eor (fun hq => ?_)
      exact go_sub [0] rfl (hx _ hq)
    · refine im (go_aload_n (pc := 22) (Y := YX1_hour) 0 dX1_hour_22 rfl rfl) ?_
      refine im (go_aload_n (pc := 23) (Y := YX1_hour) 0 dX1_hour_23 rfl rfl) ?_
      refine flp (go_gR (pc := 24) (Y := YX1_hour) fF1002 (by decide) q202 (Or.inl rfl) dX1_hour_24) (fun v11 => ?_)
      refine im (go_iload_n (pc := 27) (Y := YX1_hour) 1 dX1_hour_27 rfl rfl) ?_
      refine im (go_aload_n (pc := 28) (Y := YX1_hour) 0 dX1_hour_28 rfl rfl) ?_
      refine flp (go_gR (pc := 29) (Y := YX1_hour) fF1001 (by decide) q201 (Or.inl rfl) dX1_hour_29) (fun v12 => ?_)
      refine im (go_iload_n (pc := 32) (Y := YX1_hour) 1 dX1_hour_32 rfl rfl) ?_
      refine ivg (fun w13 r14 k15 => ?_)
      refine bpg (fun v16 he17 => ?_)
      refine im (go_callV (pc := 33) (Y := YX1_hour) (Yc := YX5_quarrel) (y := yX5_quarrel) (n := 1) (c0 := 5) (q := (RX5, TX5, 10)) w13 [iV i1] [iV i1, rV v11, rV (some this)] (by rw [r14]; rfl) rfl k15 (mX5_quarrel s8 he17) YOK_X5_quarrel rfl q1043 q136 q1041 q1042 q1159 (Nat.le_of_ble_eq_true rfl) (Nat.le_of_ble_eq_true rfl) (Nat.le_of_ble_eq_true rfl) dX1_hour_33 (st2 := [rV v16, iV i1, rV v11, rV (some this)]) rfl) ?_
      clear he17
      refine flp (go_gI (pc := 36) (Y := YX1_hour) fF73 (by decide) q1003 (Or.inl rfl) dX1_hour_36) (fun v18 => ?_)
      refine im (go_iload_n (pc := 39) (Y := YX1_hour) 2 dX1_hour_39 rfl rfl) ?_
      refine kdg (fun k19 => ?_)
      refine bdg (fun s20 v21 he22 => ?_)
      refine im (go_callV (pc := 40) (Y := YX1_hour) (Yc := YX1_brawls) (y := yX1_brawls) (n := 4) (c0 := 0) (q := (RX1, TX1, 25)) this [rV v11, iV i1, iV v18, iV v9] [] rfl rfl k19 (mX1_brawls s8 he22) YOK_X1_brawls rfl q1270 q129 q1269 qs43 q1267 (Nat.le_of_ble_eq_true rfl) (Nat.le_of_ble_eq_true rfl) (Nat.le_of_ble_eq_true rfl) dX1_hour_40 (st2 := [iV v21]) rfl) ?_
      clear he22
      refine bpg (fun v23 he24 => ?_)
      refine im (go_callS (pc := 43) (Y := YX1_hour) (Yc := YX1_isWon) (y := yX1_isWon) (n := 1) [iV v21] [] rfl (mX1_isWon s20 he24) YOK_X1_isWon rfl q1325 q129 q1324 q1323 (Nat.le_of_ble_eq_true rfl) (Nat.le_of_ble_eq_true rfl) (Nat.le_of_ble_eq_true rfl) dX1_hour_43 (st2 := [iV v23]) rfl) ?_
      clear he24
      refine flp2 (go_if_eq (pc := 46) (Y := YX1_hour) 55 dX1_hour_46 (by decide)) ?_ ?_
      · refine im (go_iinc (pc := 55) (Y := YX1_hour) 2 (v := (v9 + 1)) (ls2 := [(2, iV (v9 + 1)), (0, rV (some this)), (1, iV i1)]) dX1_hour_55 rfl rfl (Nat.le_of_ble_eq_true rfl) rfl) ?_
        refine im (go_goto (pc := 58) (Y := YX1_hour) 16 dX1_hour_58 (by decide)) ?_
        exact fun hq => go_sub [1, 2, 0] rfl (ih _ _ _ hq hr hx)
      · refine im (go_aload_n (pc := 49) (Y := YX1_hour) 0 dX1_hour_49 rfl rfl) ?_
        refine im (go_iload_n (pc := 50) (Y := YX1_hour) 2 dX1_hour_50 rfl rfl) ?_
        refine kdg (fun k25 => ?_)
        refine bdg (fun s26 v27 he28 => ?_)
        refine im (go_callV (pc := 51) (Y := YX1_hour) (Yc := YX1_well) (y := yX1_well) (n := 1) (c0 := 0) (q := (RX1, TX1, 25)) this [iV v9] [] rfl rfl k25 (mX1_well s20 he28) YOK_X1_well rfl q1102 q129 q1101 qs29 q1099 (Nat.le_of_ble_eq_true rfl) (Nat.le_of_ble_eq_true rfl) (Nat.le_of_ble_eq_true rfl) dX1_hour_51 (st2 := [iV v27]) rfl) ?_
        clear he28
        refine eor (fun hq => ?_)
        have hq2 := hr _ hq
        obtain ⟨q0, q1⟩ := Prod.mk.inj hq2
        subst q0
        subst q1
        exact go_iret (pc := 54) (Y := YX1_hour) rfl dX1_hour_54
theorem mX1_hour {G : gG} (s0 : St) {this : Nat} {p0 : Int32} {sE : St} {vE : Int32} (h : sX1_hour s0 this p0 = some (sE, vE)) : Mt G YX1_hour yX1_hour [rV (some this), iV p0] s0 (some (iV vE)) sE := by
  refine go_start (ls0 := [(0, rV (some this)), (1, iV p0)]) (by decide +kernel) rfl (fun h => by cases h) (Nat.le_of_ble_eq_true rfl) rfl ?_
  revert h
  unfold sX1_hour
  refine im (go_aload_n (pc := 0) (Y := YX1_hour) 0 dX1_hour_0 rfl rfl) ?_
  refine im (go_iload_n (pc := 1) (Y := YX1_hour) 1 dX1_hour_1 rfl rfl) ?_
  refine kdg (fun k1 => ?_)
  refine bpg (fun v2 he3 => ?_)
  refine im (go_callV (pc := 2) (Y := YX1_hour) (Yc := YX1_isQuarrel) (y := yX1_isQuarrel) (n := 1) (c0 := 0) (q := (RX1, TX1, 25)) this [iV p0] [] rfl rfl k1 (mX1_isQuarrel s0 he3) YOK_X1_isQuarrel rfl q1184 q129 q1183 qs36 q1181 (Nat.le_of_ble_eq_true rfl) (Nat.le_of_ble_eq_true rfl) (Nat.le_of_ble_eq_true rfl) dX1_hour_2 (st2 := [iV v2]) rfl) ?_
  clear he3
  refine flp2 (go_if_ne (pc := 5) (Y := YX1_hour) 14 dX1_hour_5 (by decide)) ?_ ?_
  · refine im (go_aload_n (pc := 8) (Y := YX1_hour) 0 dX1_hour_8 rfl rfl) ?_
    refine im (go_iconst (pc := 9) (Y := YX1_hour) (v := 1) dX1_hour_9 rfl) ?_
    refine kdg (fun k4 => ?_)
    refine bdg (fun s5 v6 he7 => ?_)
    refine im (go_callV (pc := 10) (Y := YX1_hour) (Yc := YX1_refused) (y := yX1_refused) (n := 1) (c0 := 0) (q := (RX1, TX1, 25)) this [iV 1] [] rfl rfl k4 (mX1_refused s0 he7) YOK_X1_refused rfl q288 q129 q287 qs0 q285 (Nat.le_of_ble_eq_true rfl) (Nat.le_of_ble_eq_true rfl) (Nat.le_of_ble_eq_true rfl) dX1_hour_10 (st2 := [iV v6]) rfl) ?_
    clear he7
    refine e2 (fun q0 q1 => ?_)
    subst q0
    subst q1
    exact go_iret (pc := 13) (Y := YX1_hour) rfl dX1_hour_13
  · refine im (go_iconst (pc := 14) (Y := YX1_hour) (v := 0) dX1_hour_14 rfl) ?_
    refine im (go_istore_n (pc := 15) (Y := YX1_hour) (ls2 := [(2, iV 0), (0, rV (some this)), (1, iV p0)]) dX1_hour_15 rfl (Nat.le_of_ble_eq_true rfl) rfl) ?_
    refine lcg (fun o36 he34 h35 => ?_)
    refine go_sub [1, 2, 0] rfl (sX1_hour_L16_go this p0 FU _ _ _ he34 h35.1 (fun s29 hq => ?_))
    have hw := h35.2 s29 hq
    clear he34
    revert hw
    refine im (go_aload_n (pc := 61) (Y := YX1_hour) 0 dX1_hour_61 rfl rfl) ?_
    refine im (go_bipush (pc := 62) (Y := YX1_hour) (v := -2) dX1_hour_62 rfl) ?_
    refine kdg (fun k30 => ?_)
    refine bdg (fun s31 v32 he33 => ?_)
    refine im (go_callV (pc := 64) (Y := YX1_hour) (Yc := YX1_well) (y := yX1_well) (n := 1) (c0 := 0) (q := (RX1, TX1, 25)) this [iV (-2)] [] rfl rfl k30 (mX1_well s29 he33) YOK_X1_well rfl q1102 q129 q1101 qs29 q1099 (Nat.le_of_ble_eq_true rfl) (Nat.le_of_ble_eq_true rfl) (Nat.le_of_ble_eq_true rfl) dX1_hour_64 (st2 := [iV v32]) rfl) ?_
    clear he33
    refine e2 (fun q0 q1 => ?_)
    subst q0
    subst q1
    exact go_iret (pc := 67) (Y := YX1_hour) rfl dX1_hour_67
abbrev YX1_longest : mY := (RX1, cX1_longest, 6, (Option.some .int), 7, 161, false)
theorem YOK_X1_longest : YOK yX1_longest 1 := ⟨⟨by decide +kernel, by decide +kernel⟩, by decide +kernel⟩
theorem sX1_longest_L21_go {G : gG} {s0 sE : St} {rE : Option V3} (this : Nat) (i1 : Int32) : ∀ (n : Nat) (s8 : St) (v9 : Int32) (v10 : Int32) (v11 : Int32) (s12 : St) (v13 : Int32), sX1_longest_L21 this i1 n s8 v9 v10 v11 = some (s12, v13) → Go G YX1_longest s0 sE rE 90 [(0, rV (some this)), (2, iV v13)] [] s12 → Go G YX1_longest s0 sE rE 21 [(0, rV (some this)), (1, iV i1), (2, iV v9), (3, iV v10), (4, iV v11)] [] s8 := by
  intro n
  induction n with
  | zero => intro s8 v9 v10 v11 s12 v13 h hx; rw [sX1_longest_L21] at h; cases h
  | succ n ih =>
    intro s8 v9 v10 v11 s12 v13 h hx
    revert h
    rw [sX1_longest_L21]
    refine im (go_iload (pc := 21) (Y := YX1_longest) 4 dX1_longest_21 rfl) ?_
    refine im (go_aload_n (pc := 23) (Y := YX1_longest) 0 dX1_longest_23 rfl rfl) ?_
    refine kdg (fun k14 => ?_)
    refine bpg (fun v15 he16 => ?_)
    refine im (go_callV (pc := 24) (Y := YX1_longest) (Yc := YX1_places) (y := yX1_places) (n := 0) (c0 := 0) (q := (RX1, TX1, 25)) this [] [iV v11] rfl rfl k14 (mX1_places s8 he16) YOK_X1_places rfl q1097 q129 q1096 qs28 q1094 (Nat.le_of_ble_eq_true rfl) (Nat.le_of_ble_eq_true rfl) (Nat.le_of_ble_eq_true rfl) dX1_longest_24 (st2 := [iV v15, iV v11]) rfl) ?_
    clear he16
    refine flp2 (go_icmp_ge (pc := 27) (Y := YX1_longest) 90 dX1_longest_27 (by decide)) ?_ ?_
    · refine e2 (fun q0 q1 => ?_)
      subst q0
      subst q1
      exact go_sub [0, 2] rfl hx
    · refine im (go_aload_n (pc := 30) (Y := YX1_longest) 0 dX1_longest_30 rfl rfl) ?_
      refine im (go_aload_n (pc := 31) (Y := YX1_longest) 0 dX1_longest_31 rfl rfl) ?_
      refine flp (go_gR (pc := 32) (Y := YX1_longest) fF1002 (by decide) q202 (Or.inl rfl) dX1_longest_32) (fun v17 => ?_)
      refine im (go_iload_n (pc := 35) (Y := YX1_longest) 1 dX1_longest_35 rfl rfl) ?_
      refine im (go_iload (pc := 36) (Y := YX1_longest) 4 dX1_longest_36 rfl) ?_
      refine im (go_aload_n (pc := 38) (Y := YX1_longest) 0 dX1_longest_38 rfl rfl) ?_
      refine flp (go_gR (pc := 39) (Y := YX1_longest) fF1001 (by decide) q201 (Or.inl rfl) dX1_longest_39) (fun v18 => ?_)
      refine im (go_iload_n (pc := 42) (Y := YX1_longest) 1 dX1_longest_42 rfl rfl) ?_
      refine ivg (fun w19 r20 k21 => ?_)
      refine bpg (fun v22 he23 => ?_)
      refine im (go_callV (pc := 43) (Y := YX1_longest) (Yc := YX5_quarrel) (y := yX5_quarrel) (n := 1) (c0 := 5) (q := (RX5, TX5, 10)) w19 [iV i1] [iV v11, iV i1, rV v17, rV (some this)] (by rw [r20]; rfl) rfl k21 (mX5_quarrel s8 he23) YOK_X5_quarrel rfl q1043 q136 q1041 q1042 q1159 (Nat.le_of_ble_eq_true rfl) (Nat.le_of_ble_eq_true rfl) (Nat.le_of_ble_eq_true rfl) dX1_longest_43 (st2 := [rV v22, iV v11, iV i1, rV v17, rV (some this)]) rfl) ?_
      clear he23
      refine flp (go_gI (pc := 46) (Y := YX1_longest) fF74 (by decide) q1005 (Or.inl rfl) dX1_longest_46) (fun v24 => ?_)
      refine kdg (fun k25 => ?_)
      refine bdg (fun s26 v27 he28 => ?_)
      refine im (go_callV (pc := 49) (Y := YX1_longest) (Yc := YX1_brawls) (y := yX1_brawls) (n := 4) (c0 := 0) (q := (RX1, TX1, 25)) this [rV v17, iV i1, iV v11, iV v24] [] rfl rfl k25 (mX1_brawls s8 he28) YOK_X1_brawls rfl q1270 q129 q1269 qs43 q1267 (Nat.le_of_ble_eq_true rfl) (Nat.le_of_ble_eq_true rfl) (Nat.le_of_ble_eq_true rfl) dX1_longest_49 (st2 := [iV v27]) rfl) ?_
      clear he28
      refine im (go_bipush (pc := 52) (Y := YX1_longest) (v := -2) dX1_longest_52 rfl) ?_
      refine bpg (fun v29 he35 h36 => ?_)
      have hj67 : Go G YX1_longest s0 sE rE 67 [(0, rV (some this)), (1, iV i1), (2, iV v9), (3, iV v10), (4, iV v11)] [iV v29] s26 := by
        clear he35
        revert h36
        refine im (go_istore (pc := 67) (Y := YX1_longest) (ls2 := [(5, iV v29), (0, rV (some this)), (1, iV i1), (2, iV v9), (3, iV v10), (4, iV v11)]) dX1_longest_67 (Nat.le_of_ble_eq_true rfl) rfl) ?_
        refine im (go_iload (pc := 69) (Y := YX1_longest) 0 dX1_longest_69 rfl) ?_
        refine im (go_iload_n (pc := 71) (Y := YX1_longest) 4 dX1_longest_71 rfl rfl) ?_
        refine b2g (fun v30 v31 he32 h33 => ?_)
        have hj84 : Go G YX1_longest s0 sE rE 84 [(0, rV (some this)), (1, iV i1), (2, iV v30), (3, iV v31), (4, iV v11)] [] s26 := by
          clear he32
          revert h33
          refine im (go_iinc (pc := 84) (Y := YX1_longest) 4 (v := (v11 + 1)) (ls2 := [(4, iV (v11 + 1)), (0, rV (some this)), (1, iV i1), (2, iV v30), (3, iV v31)]) dX1_longest_84 rfl rfl (Nat.le_of_ble_eq_true rfl) rfl) ?_
          refine im (go_goto (pc := 87) (Y := YX1_longest) 21 dX1_longest_87 (by decide)) ?_
          exact fun hq => go_sub [1, 2, 3, 4, 0] rfl (ih _ _ _ _ _ _ hq hx)
        clear h33
        revert he32
        refine flp2 (go_icmp_gt (pc := 72) (Y := YX1_longest) 78 dX1_longest_72 (by decide)) ?_ ?_
        · refine im (go_iload (pc := 78) (Y := YX1_longest) 0 dX1_longest_78 rfl) ?_
          refine im (go_istore_n (pc := 80) (Y := YX1_longest) (ls2 := [(3, iV v29), (5, iV v29), (0, rV (some this)), (1, iV i1), (2, iV v9), (4, iV v11)]) dX1_longest_80 rfl (Nat.le_of_ble_eq_true rfl) rfl) ?_
          refine im (go_iload (pc := 81) (Y := YX1_longest) 5 dX1_longest_81 rfl) ?_
          refine im (go_istore_n (pc := 83) (Y := YX1_longest) (ls2 := [(2, iV v11), (3, iV v29), (5, iV v29), (0, rV (some this)), (1, iV i1), (4, iV v11)]) dX1_longest_83 rfl (Nat.le_of_ble_eq_true rfl) rfl) ?_
          refine e2 (fun q0 q1 => ?_)
          subst q0
          subst q1
          exact go_sub [3, 4, 0, 1, 5] rfl hj84
        · refine im (go_goto (pc := 75) (Y := YX1_longest) 84 dX1_longest_75 (by decide)) ?_
          refine e2 (fun q0 q1 => ?_)
          subst q0
          subst q1
          exact go_sub [1, 2, 3, 4, 5] rfl hj84
      clear h36
      revert he35
      refine flp2 (go_icmp_ne (pc := 54) (Y := YX1_longest) 63 dX1_longest_54 (by decide)) ?_ ?_
      · refine im (go_sipush (pc := 57) (Y := YX1_longest) (v := 9999) dX1_longest_57 rfl) ?_
        refine im (go_goto (pc := 60) (Y := YX1_longest) 67 dX1_longest_60 (by decide)) ?_
        refine e1 (fun q0 => ?_)
        subst q0
        exact go_sub [0, 1, 2, 3, 4] rfl hj67
      · refine im (go_aload_n (pc := 63) (Y := YX1_longest) 0 dX1_longest_63 rfl rfl) ?_
        refine flp (go_gI (pc := 64) (Y := YX1_longest) fF7 (by decide) q209 (Or.inl rfl) dX1_longest_64) (fun v34 => ?_)
        refine e1 (fun q0 => ?_)
        subst q0
        exact go_sub [0, 1, 2, 3, 4] rfl hj67
theorem mX1_longest {G : gG} (s0 : St) {this : Nat} {p0 : Int32} {sE : St} {vE : Int32} (h : sX1_longest s0 this p0 = some (sE, vE)) : Mt G YX1_longest yX1_longest [rV (some this), iV p0] s0 (some (iV vE)) sE := by
  refine go_start (ls0 := [(0, rV (some this)), (1, iV p0)]) (by decide +kernel) rfl (fun h => by cases h) (Nat.le_of_ble_eq_true rfl) rfl ?_
  revert h
  unfold sX1_longest
  refine im (go_aload_n (pc := 0) (Y := YX1_longest) 0 dX1_longest_0 rfl rfl) ?_
  refine im (go_iload_n (pc := 1) (Y := YX1_longest) 1 dX1_longest_1 rfl rfl) ?_
  refine kdg (fun k1 => ?_)
  refine bpg (fun v2 he3 => ?_)
  refine im (go_callV (pc := 2) (Y := YX1_longest) (Yc := YX1_isQuarrel) (y := yX1_isQuarrel) (n := 1) (c0 := 0) (q := (RX1, TX1, 25)) this [iV p0] [] rfl rfl k1 (mX1_isQuarrel s0 he3) YOK_X1_isQuarrel rfl q1184 q129 q1183 qs36 q1181 (Nat.le_of_ble_eq_true rfl) (Nat.le_of_ble_eq_true rfl) (Nat.le_of_ble_eq_true rfl) dX1_longest_2 (st2 := [iV v2]) rfl) ?_
  clear he3
  refine flp2 (go_if_ne (pc := 5) (Y := YX1_longest) 14 dX1_longest_5 (by decide)) ?_ ?_
  · refine im (go_aload_n (pc := 8) (Y := YX1_longest) 0 dX1_longest_8 rfl rfl) ?_
    refine im (go_iconst (pc := 9) (Y := YX1_longest) (v := 1) dX1_longest_9 rfl) ?_
    refine kdg (fun k4 => ?_)
    refine bdg (fun s5 v6 he7 => ?_)
    refine im (go_callV (pc := 10) (Y := YX1_longest) (Yc := YX1_refused) (y := yX1_refused) (n := 1) (c0 := 0) (q := (RX1, TX1, 25)) this [iV 1] [] rfl rfl k4 (mX1_refused s0 he7) YOK_X1_refused rfl q288 q129 q287 qs0 q285 (Nat.le_of_ble_eq_true rfl) (Nat.le_of_ble_eq_true rfl) (Nat.le_of_ble_eq_true rfl) dX1_longest_10 (st2 := [iV v6]) rfl) ?_
    clear he7
    refine e2 (fun q0 q1 => ?_)
    subst q0
    subst q1
    exact go_iret (pc := 13) (Y := YX1_longest) rfl dX1_longest_13
  · refine im (go_iconst (pc := 14) (Y := YX1_longest) (v := 0) dX1_longest_14 rfl) ?_
    refine im (go_istore_n (pc := 15) (Y := YX1_longest) (ls2 := [(2, iV 0), (0, rV (some this)), (1, iV p0)]) dX1_longest_15 rfl (Nat.le_of_ble_eq_true rfl) rfl) ?_
    refine im (go_iconst (pc := 16) (Y := YX1_longest) (v := -1) dX1_longest_16 rfl) ?_
    refine im (go_istore_n (pc := 17) (Y := YX1_longest) (ls2 := [(3, iV (-1)), (2, iV 0), (0, rV (some this)), (1, iV p0)]) dX1_longest_17 rfl (Nat.le_of_ble_eq_true rfl) rfl) ?_
    refine im (go_iconst (pc := 18) (Y := YX1_longest) (v := 0) dX1_longest_18 rfl) ?_
    refine im (go_istore (pc := 19) (Y := YX1_longest) (ls2 := [(4, iV 0), (3, iV (-1)), (2, iV 0), (0, rV (some this)), (1, iV p0)]) dX1_longest_19 (Nat.le_of_ble_eq_true rfl) rfl) ?_
    refine b2g (fun s37 v38 he43 h44 => ?_)
    refine go_sub [3, 4, 2, 1, 0] rfl (sX1_longest_L21_go this p0 FU _ _ _ _ _ _ he43 ?_)
    clear he43
    revert h44
    refine im (go_aload_n (pc := 90) (Y := YX1_longest) 0 dX1_longest_90 rfl rfl) ?_
    refine im (go_iload_n (pc := 91) (Y := YX1_longest) 1 dX1_longest_91 rfl rfl) ?_
    refine kdg (fun k39 => ?_)
    refine bdg (fun s40 v41 he42 => ?_)
    refine im (go_callV (pc := 92) (Y := YX1_longest) (Yc := YX1_well) (y := yX1_well) (n := 1) (c0 := 0) (q := (RX1, TX1, 25)) this [iV v38] [] rfl rfl k39 (mX1_well s37 he42) YOK_X1_well rfl q1102 q129 q1101 qs29 q1099 (Nat.le_of_ble_eq_true rfl) (Nat.le_of_ble_eq_true rfl) (Nat.le_of_ble_eq_true rfl) dX1_longest_92 (st2 := [iV v41]) rfl) ?_
    clear he42
    refine e2 (fun q0 q1 => ?_)
    subst q0
    subst q1
    exact go_iret (pc := 95) (Y := YX1_longest) rfl dX1_longest_95
abbrev YX1_moor : mY := (RX1, cX1_moor, 4, (Option.some .int), 7, 161, false)
theorem YOK_X1_moor : YOK yX1_moor 1 := ⟨⟨by decide +kernel, by decide +kernel⟩, by decide +kernel⟩
theorem sX1_moor_L24_go {G : gG} {s0 : St} {sE : St} {vE : Int32} (this : Nat) (i1 : Int32) (i2 : Int32) : ∀ (n : Nat) (s11 : St) (v12 : Int32) (o : (St × Int32) ⊕ (St)), sX1_moor_L24 this i1 i2 n s11 v12 = some o → (∀ r, o = .inl r → r = (sE, vE)) → (∀ (s13 : St), o = .inr s13 → Go G YX1_moor s0 sE (some (iV vE)) 66 [(0, rV (some this)), (1, iV i1), (2, iV i2)] [] s13) → Go G YX1_moor s0 sE (some (iV vE)) 24 [(0, rV (some this)), (1, iV i1), (2, iV i2), (3, iV v12)] [] s11 := by
  intro n
  induction n with
  | zero => intro s11 v12 o h hr hx; rw [sX1_moor_L24] at h; cases h
  | succ n ih =>
    intro s11 v12 o h hr hx
    revert h
    rw [sX1_moor_L24]
    refine im (go_iload_n (pc := 24) (Y := YX1_moor) 3 dX1_moor_24 rfl rfl) ?_
    refine im (go_aload_n (pc := 25) (Y := YX1_moor) 0 dX1_moor_25 rfl rfl) ?_
    refine kdg (fun k14 => ?_)
    refine bpg (fun v15 he16 => ?_)
    refine im (go_callV (pc := 26) (Y := YX1_moor) (Yc := YX1_places) (y := yX1_places) (n := 0) (c0 := 0) (q := (RX1, TX1, 25)) this [] [iV v12] rfl rfl k14 (mX1_places s11 he16) YOK_X1_places rfl q1097 q129 q1096 qs28 q1094 (Nat.le_of_ble_eq_true rfl) (Nat.le_of_ble_eq_true rfl) (Nat.le_of_ble_eq_true rfl) dX1_moor_26 (st2 := [iV v15, iV v12]) rfl) ?_
    clear he16
    refine flp2 (go_icmp_ge (pc := 29) (Y := YX1_moor) 66 dX1_moor_29 (by decide)) ?_ ?_
    · refine eor (fun hq => ?_)
      exact go_sub [0, 1, 2] rfl (hx _ hq)
    · refine im (go_aload_n (pc := 32) (Y := YX1_moor) 0 dX1_moor_32 rfl rfl) ?_
      refine im (go_aload_n (pc := 33) (Y := YX1_moor) 0 dX1_moor_33 rfl rfl) ?_
      refine flp (go_gR (pc := 34) (Y := YX1_moor) fF1002 (by decide) q202 (Or.inl rfl) dX1_moor_34) (fun v17 => ?_)
      refine im (go_iload_n (pc := 37) (Y := YX1_moor) 1 dX1_moor_37 rfl rfl) ?_
      refine im (go_iload_n (pc := 38) (Y := YX1_moor) 3 dX1_moor_38 rfl rfl) ?_
      refine im (go_iload_n (pc := 39) (Y := YX1_moor) 2 dX1_moor_39 rfl rfl) ?_
      refine kdg (fun k18 => ?_)
      refine bdg (fun s19 v20 he21 => ?_)
      refine im (go_callV (pc := 40) (Y := YX1_moor) (Yc := YX1_brawls) (y := yX1_brawls) (n := 4) (c0 := 0) (q := (RX1, TX1, 25)) this [rV v17, iV i1, iV v12, iV i2] [] rfl rfl k18 (mX1_brawls s11 he21) YOK_X1_brawls rfl q1270 q129 q1269 qs43 q1267 (Nat.le_of_ble_eq_true rfl) (Nat.le_of_ble_eq_true rfl) (Nat.le_of_ble_eq_true rfl) dX1_moor_40 (st2 := [iV v20]) rfl) ?_
      clear he21
      refine bpg (fun v22 he23 => ?_)
      refine im (go_callS (pc := 43) (Y := YX1_moor) (Yc := YX1_isWon) (y := yX1_isWon) (n := 1) [iV v20] [] rfl (mX1_isWon s19 he23) YOK_X1_isWon rfl q1325 q129 q1324 q1323 (Nat.le_of_ble_eq_true rfl) (Nat.le_of_ble_eq_true rfl) (Nat.le_of_ble_eq_true rfl) dX1_moor_43 (st2 := [iV v22]) rfl) ?_
      clear he23
      refine flp2 (go_if_eq (pc := 46) (Y := YX1_moor) 60 dX1_moor_46 (by decide)) ?_ ?_
      · refine im (go_iinc (pc := 60) (Y := YX1_moor) 3 (v := (v12 + 1)) (ls2 := [(3, iV (v12 + 1)), (0, rV (some this)), (1, iV i1), (2, iV i2)]) dX1_moor_60 rfl rfl (Nat.le_of_ble_eq_true rfl) rfl) ?_
        refine im (go_goto (pc := 63) (Y := YX1_moor) 24 dX1_moor_63 (by decide)) ?_
        exact fun hq => go_sub [1, 2, 3, 0] rfl (ih _ _ _ hq hr hx)
      · refine im (go_aload_n (pc := 49) (Y := YX1_moor) 0 dX1_moor_49 rfl rfl) ?_
        refine im (go_bipush (pc := 50) (Y := YX1_moor) (v := 10) dX1_moor_50 rfl) ?_
        refine im (go_iload_n (pc := 52) (Y := YX1_moor) 2 dX1_moor_52 rfl rfl) ?_
        refine im (go_imul (pc := 53) (Y := YX1_moor) dX1_moor_53) ?_
        refine im (go_iload_n (pc := 54) (Y := YX1_moor) 3 dX1_moor_54 rfl rfl) ?_
        refine im (go_iadd (pc := 55) (Y := YX1_moor) dX1_moor_55) ?_
        refine kdg (fun k24 => ?_)
        refine bdg (fun s25 v26 he27 => ?_)
        refine im (go_callV (pc := 56) (Y := YX1_moor) (Yc := YX1_well) (y := yX1_well) (n := 1) (c0 := 0) (q := (RX1, TX1, 25)) this [iV ((10 * i2) + v12)] [] rfl rfl k24 (mX1_well s19 he27) YOK_X1_well rfl q1102 q129 q1101 qs29 q1099 (Nat.le_of_ble_eq_true rfl) (Nat.le_of_ble_eq_true rfl) (Nat.le_of_ble_eq_true rfl) dX1_moor_56 (st2 := [iV v26]) rfl) ?_
        clear he27
        refine eor (fun hq => ?_)
        have hq2 := hr _ hq
        obtain ⟨q0, q1⟩ := Prod.mk.inj hq2
        subst q0
        subst q1
        exact go_iret (pc := 59) (Y := YX1_moor) rfl dX1_moor_59
theorem sX1_moor_L16_go {G : gG} {s0 : St} {sE : St} {vE : Int32} (this : Nat) (i1 : Int32) : ∀ (n : Nat) (s8 : St) (v9 : Int32) (o : (St × Int32) ⊕ (St)), sX1_moor_L16 this i1 n s8 v9 = some o → (∀ r, o = .inl r → r = (sE, vE)) → (∀ (s10 : St), o = .inr s10 → Go G YX1_moor s0 sE (some (iV vE)) 72 [(0, rV (some this))] [] s10) → Go G YX1_moor s0 sE (some (iV vE)) 16 [(0, rV (some this)), (1, iV i1), (2, iV v9)] [] s8 := by
  intro n
  induction n with
  | zero => intro s8 v9 o h hr hx; rw [sX1_moor_L16] at h; cases h
  | succ n ih =>
    intro s8 v9 o h hr hx
    revert h
    rw [sX1_moor_L16]
    refine im (go_iload_n (pc := 16) (Y := YX1_moor) 2 dX1_moor_16 rfl rfl) ?_
    refine im (go_bipush (pc := 17) (Y := YX1_moor) (v := 59) dX1_moor_17 rfl) ?_
    refine flp2 (go_icmp_gt (pc := 19) (Y := YX1_moor) 72 dX1_moor_19 (by decide)) ?_ ?_
    · refine eor (fun hq => ?_)
      exact go_sub [0] rfl (hx _ hq)
    · refine im (go_iconst (pc := 22) (Y := YX1_moor) (v := 0) dX1_moor_22 rfl) ?_
      refine im (go_istore_n (pc := 23) (Y := YX1_moor) (ls2 := [(3, iV 0), (0, rV (some this)), (1, iV i1), (2, iV v9)]) dX1_moor_23 rfl (Nat.le_of_ble_eq_true rfl) rfl) ?_
      refine lcIg (fun o31 he29 h30 => ?_)
      refine go_sub [1, 2, 3, 0] rfl (sX1_moor_L24_go this i1 v9 FU _ _ _ he29 (fun r hq => hr r (h30.1 r hq)) (fun s28 hq => ?_))
      have hw := h30.2 s28 hq
      clear he29
      revert hw
      refine im (go_iinc (pc := 66) (Y := YX1_moor) 2 (v := (v9 + 1)) (ls2 := [(2, iV (v9 + 1)), (0, rV (some this)), (1, iV i1)]) dX1_moor_66 rfl rfl (Nat.le_of_ble_eq_true rfl) rfl) ?_
      refine im (go_goto (pc := 69) (Y := YX1_moor) 16 dX1_moor_69 (by decide)) ?_
      exact fun hq => go_sub [1, 2, 0] rfl (ih _ _ _ hq hr hx)
theorem mX1_moor {G : gG} (s0 : St) {this : Nat} {p0 : Int32} {sE : St} {vE : Int32} (h : sX1_moor s0 this p0 = some (sE, vE)) : Mt G YX1_moor yX1_moor [rV (some this), iV p0] s0 (some (iV vE)) sE := by
  refine go_start (ls0 := [(0, rV (some this)), (1, iV p0)]) (by decide +kernel) rfl (fun h => by cases h) (Nat.le_of_ble_eq_true rfl) rfl ?_
  revert h
  unfold sX1_moor
  refine im (go_aload_n (pc := 0) (Y := YX1_moor) 0 dX1_moor_0 rfl rfl) ?_
  refine im (go_iload_n (pc := 1) (Y := YX1_moor) 1 dX1_moor_1 rfl rfl) ?_
  refine kdg (fun k1 => ?_)
  refine bpg (fun v2 he3 => ?_)
  refine im (go_callV (pc := 2) (Y := YX1_moor) (Yc := YX1_isQuarrel) (y := yX1_isQuarrel) (n := 1) (c0 := 0) (q := (RX1, TX1, 25)) this [iV p0] [] rfl rfl k1 (mX1_isQuarrel s0 he3) YOK_X1_isQuarrel rfl q1184 q129 q1183 qs36 q1181 (Nat.le_of_ble_eq_true rfl) (Nat.le_of_ble_eq_true rfl) (Nat.le_of_ble_eq_true rfl) dX1_moor_2 (st2 := [iV v2]) rfl) ?_
  clear he3
  refine flp2 (go_if_ne (pc := 5) (Y := YX1_moor) 14 dX1_moor_5 (by decide)) ?_ ?_
  · refine im (go_aload_n (pc := 8) (Y := YX1_moor) 0 dX1_moor_8 rfl rfl) ?_
    refine im (go_iconst (pc := 9) (Y := YX1_moor) (v := 1) dX1_moor_9 rfl) ?_
    refine kdg (fun k4 => ?_)
    refine bdg (fun s5 v6 he7 => ?_)
    refine im (go_callV (pc := 10) (Y := YX1_moor) (Yc := YX1_refused) (y := yX1_refused) (n := 1) (c0 := 0) (q := (RX1, TX1, 25)) this [iV 1] [] rfl rfl k4 (mX1_refused s0 he7) YOK_X1_refused rfl q288 q129 q287 qs0 q285 (Nat.le_of_ble_eq_true rfl) (Nat.le_of_ble_eq_true rfl) (Nat.le_of_ble_eq_true rfl) dX1_moor_10 (st2 := [iV v6]) rfl) ?_
    clear he7
    refine e2 (fun q0 q1 => ?_)
    subst q0
    subst q1
    exact go_iret (pc := 13) (Y := YX1_moor) rfl dX1_moor_13
  · refine im (go_iconst (pc := 14) (Y := YX1_moor) (v := 0) dX1_moor_14 rfl) ?_
    refine im (go_istore_n (pc := 15) (Y := YX1_moor) (ls2 := [(2, iV 0), (0, rV (some this)), (1, iV p0)]) dX1_moor_15 rfl (Nat.le_of_ble_eq_true rfl) rfl) ?_
    refine lcg (fun o39 he37 h38 => ?_)
    refine go_sub [1, 2, 0] rfl (sX1_moor_L16_go this p0 FU _ _ _ he37 h38.1 (fun s32 hq => ?_))
    have hw := h38.2 s32 hq
    clear he37
    revert hw
    refine im (go_aload_n (pc := 72) (Y := YX1_moor) 0 dX1_moor_72 rfl rfl) ?_
    refine im (go_bipush (pc := 73) (Y := YX1_moor) (v := -2) dX1_moor_73 rfl) ?_
    refine kdg (fun k33 => ?_)
    refine bdg (fun s34 v35 he36 => ?_)
    refine im (go_callV (pc := 75) (Y := YX1_moor) (Yc := YX1_well) (y := yX1_well) (n := 1) (c0 := 0) (q := (RX1, TX1, 25)) this [iV (-2)] [] rfl rfl k33 (mX1_well s32 he36) YOK_X1_well rfl q1102 q129 q1101 qs29 q1099 (Nat.le_of_ble_eq_true rfl) (Nat.le_of_ble_eq_true rfl) (Nat.le_of_ble_eq_true rfl) dX1_moor_75 (st2 := [iV v35]) rfl) ?_
    clear he36
    refine e2 (fun q0 q1 => ?_)
    subst q0
    subst q1
    exact go_iret (pc := 78) (Y := YX1_moor) rfl dX1_moor_78
abbrev YX1_tries : mY := (RX1, cX1_tries, 1, (Option.some (.object "ThirdWitness$Scene")), 2, 47, false)
theorem YOK_X1_tries : YOK yX1_tries 0 := ⟨⟨by decide +kernel, by decide +kernel⟩, by decide +kernel⟩
theorem mX1_tries {G : gG} (s0 : St) {this : Nat} {sE : St} {vE : Option Nat} (h : sX1_tries s0 this = some (sE, vE)) : Mt G YX1_tries yX1_tries [rV (some this)] s0 (some (rV vE)) sE := by
  refine go_start (ls0 := [(0, rV (some this))]) (by decide +kernel) rfl (fun h => by cases h) (Nat.le_of_ble_eq_true rfl) rfl ?_
  revert h
  unfold sX1_tries
  refine im (go_aload_n (pc := 0) (Y := YX1_tries) 0 dX1_tries_0 rfl rfl) ?_
  refine flp (go_gR (pc := 1) (Y := YX1_tries) fF1003 (by decide) q203 (Or.inl rfl) dX1_tries_1) (fun v1 => ?_)
  refine im (go_aload_n (pc := 4) (Y := YX1_tries) 0 dX1_tries_4 rfl rfl) ?_
  refine flp (go_gR (pc := 5) (Y := YX1_tries) fF1002 (by decide) q202 (Or.inl rfl) dX1_tries_5) (fun v2 => ?_)
  refine ivg (fun w3 r4 k5 => ?_)
  refine bpg (fun s6 he7 => ?_)
  refine im (go_callV (pc := 8) (Y := YX1_tries) (Yc := YX14_takes) (y := yX14_takes) (n := 1) (c0 := 16) (q := (RX14, TX14, 4)) w3 [rV v2] [] (by rw [r4]; rfl) rfl k5 (mX14_takes s0 he7) YOK_X14_takes rfl q1088 q156 q1086 q1087 q1346 (Nat.le_of_ble_eq_true rfl) (Nat.le_of_ble_eq_true rfl) (Nat.le_of_ble_eq_true rfl) dX1_tries_8 (st2 := []) rfl) ?_
  clear he7
  refine im (go_aload_n (pc := 11) (Y := YX1_tries) 0 dX1_tries_11 rfl rfl) ?_
  refine flp (go_gR (pc := 12) (Y := YX1_tries) fF1003 (by decide) q203 (Or.inl rfl) dX1_tries_12) (fun v8 => ?_)
  refine e2 (fun q0 q1 => ?_)
  subst q0
  subst q1
  exact go_aret (pc := 15) (Y := YX1_tries) rfl (Or.inl ⟨_, rfl⟩) dX1_tries_15
abbrev YX1_bricks : mY := (RX1, cX1_bricks, 4, (Option.some .int), 8, 183, false)
theorem YOK_X1_bricks : YOK yX1_bricks 1 := ⟨⟨by decide +kernel, by decide +kernel⟩, by decide +kernel⟩
theorem sX1_bricks_L19_go {G : gG} {s0 sE : St} {rE : Option V3} (this : Nat) (i1 : Int32) : ∀ (n : Nat) (s8 : St) (v9 : Int32) (v10 : Int32) (s11 : St) (v12 : Int32), sX1_bricks_L19 this i1 n s8 v9 v10 = some (s11, v12) → Go G YX1_bricks s0 sE rE 97 [(0, rV (some this)), (2, iV v12)] [] s11 → Go G YX1_bricks s0 sE rE 19 [(0, rV (some this)), (1, iV i1), (2, iV v9), (3, iV v10)] [] s8 := by
  intro n
  induction n with
  | zero => intro s8 v9 v10 s11 v12 h hx; rw [sX1_bricks_L19] at h; cases h
  | succ n ih =>
    intro s8 v9 v10 s11 v12 h hx
    revert h
    rw [sX1_bricks_L19]
    refine im (go_iload_n (pc := 19) (Y := YX1_bricks) 3 dX1_bricks_19 rfl rfl) ?_
    refine im (go_iconst (pc := 20) (Y := YX1_bricks) (v := 1) dX1_bricks_20 rfl) ?_
    refine im (go_aload_n (pc := 21) (Y := YX1_bricks) 0 dX1_bricks_21 rfl rfl) ?_
    refine kdg (fun k13 => ?_)
    refine bpg (fun v14 he15 => ?_)
    refine im (go_callV (pc := 22) (Y := YX1_bricks) (Yc := YX1_sights) (y := yX1_sights) (n := 0) (c0 := 0) (q := (RX1, TX1, 25)) this [] [iV 1, iV v10] rfl rfl k13 (mX1_sights s8 he15) YOK_X1_sights rfl q1171 q129 q1170 qs35 q1168 (Nat.le_of_ble_eq_true rfl) (Nat.le_of_ble_eq_true rfl) (Nat.le_of_ble_eq_true rfl) dX1_bricks_22 (st2 := [iV v14, iV 1, iV v10]) rfl) ?_
    clear he15
    refine im (go_ishl (pc := 25) (Y := YX1_bricks) dX1_bricks_25) ?_
    refine flp2 (go_icmp_ge (pc := 26) (Y := YX1_bricks) 97 dX1_bricks_26 (by decide)) ?_ ?_
    · refine e2 (fun q0 q1 => ?_)
      subst q0
      subst q1
      exact go_sub [0, 2] rfl hx
    · refine im (go_iload_n (pc := 29) (Y := YX1_bricks) 3 dX1_bricks_29 rfl rfl) ?_
      refine im (go_aload_n (pc := 30) (Y := YX1_bricks) 0 dX1_bricks_30 rfl rfl) ?_
      refine flp (go_gR (pc := 31) (Y := YX1_bricks) fF1002 (by decide) q202 (Or.inl rfl) dX1_bricks_31) (fun v16 => ?_)
      refine flp (go_gI (pc := 34) (Y := YX1_bricks) fF77 (by decide) q1063 (Or.inl rfl) dX1_bricks_34) (fun v17 => ?_)
      refine im (go_iand (pc := 37) (Y := YX1_bricks) dX1_bricks_37) ?_
      refine b2g (fun s18 v19 he50 h51 => ?_)
      have hj91 : Go G YX1_bricks s0 sE rE 91 [(0, rV (some this)), (1, iV i1), (2, iV v19), (3, iV v10)] [] s18 := by
        clear he50
        revert h51
        refine im (go_iinc (pc := 91) (Y := YX1_bricks) 3 (v := (v10 + 1)) (ls2 := [(3, iV (v10 + 1)), (0, rV (some this)), (1, iV i1), (2, iV v19)]) dX1_bricks_91 rfl rfl (Nat.le_of_ble_eq_true rfl) rfl) ?_
        refine im (go_goto (pc := 94) (Y := YX1_bricks) 19 dX1_bricks_94 (by decide)) ?_
        exact fun hq => go_sub [1, 2, 3, 0] rfl (ih _ _ _ _ _ hq hx)
      clear h51
      revert he50
      refine flp2 (go_if_ne (pc := 38) (Y := YX1_bricks) 91 dX1_bricks_38 (by decide)) ?_ ?_
      · refine im (go_iload_n (pc := 41) (Y := YX1_bricks) 2 dX1_bricks_41 rfl rfl) ?_
        refine im (go_bipush (pc := 42) (Y := YX1_bricks) (v := -2) dX1_bricks_42 rfl) ?_
        refine flp2 (go_icmp_eq (pc := 44) (Y := YX1_bricks) 61 dX1_bricks_44 (by decide)) ?_ ?_
        · refine im (go_aload_n (pc := 61) (Y := YX1_bricks) 0 dX1_bricks_61 rfl rfl) ?_
          refine kdg (fun k20 => ?_)
          refine bdg (fun s21 v22 he23 => ?_)
          refine im (go_callV (pc := 62) (Y := YX1_bricks) (Yc := YX1_tries) (y := yX1_tries) (n := 0) (c0 := 0) (q := (RX1, TX1, 25)) this [] [] rfl rfl k20 (mX1_tries s8 he23) YOK_X1_tries rfl q1345 q129 q1344 qs46 q1342 (Nat.le_of_ble_eq_true rfl) (Nat.le_of_ble_eq_true rfl) (Nat.le_of_ble_eq_true rfl) dX1_bricks_62 (st2 := [rV v22]) rfl) ?_
          clear he23
          refine im (go_dup (pc := 65) (Y := YX1_bricks) dX1_bricks_65 rfl) ?_
          refine flp (go_gI (pc := 66) (Y := YX1_bricks) fF77 (by decide) q1063 (Or.inl rfl) dX1_bricks_66) (fun v24 => ?_)
          refine im (go_iload_n (pc := 69) (Y := YX1_bricks) 3 dX1_bricks_69 rfl rfl) ?_
          refine im (go_ior (pc := 70) (Y := YX1_bricks) dX1_bricks_70) ?_
          refine flp (go_pI (pc := 71) (Y := YX1_bricks) fF77 (by decide) q1063 (Or.inl rfl) (Or.inl rfl) rfl rfl rfl dX1_bricks_71) (fun s25 => ?_)
          refine im (go_aload_n (pc := 74) (Y := YX1_bricks) 0 dX1_bricks_74 rfl rfl) ?_
          refine im (go_aload_n (pc := 75) (Y := YX1_bricks) 0 dX1_bricks_75 rfl rfl) ?_
          refine flp (go_gR (pc := 76) (Y := YX1_bricks) fF1003 (by decide) q203 (Or.inl rfl) dX1_bricks_76) (fun v26 => ?_)
          refine im (go_iload_n (pc := 79) (Y := YX1_bricks) 1 dX1_bricks_79 rfl rfl) ?_
          refine kdg (fun k27 => ?_)
          refine bdg (fun s28 v29 he30 => ?_)
          refine im (go_callV (pc := 80) (Y := YX1_bricks) (Yc := YX1_brawlsOn) (y := yX1_brawlsOn) (n := 2) (c0 := 0) (q := (RX1, TX1, 25)) this [rV v26, iV i1] [] rfl rfl k27 (mX1_brawlsOn s25 he30) YOK_X1_brawlsOn rfl q1266 q129 q1265 qs42 q1263 (Nat.le_of_ble_eq_true rfl) (Nat.le_of_ble_eq_true rfl) (Nat.le_of_ble_eq_true rfl) dX1_bricks_80 (st2 := [iV v29]) rfl) ?_
          clear he30
          refine bpg (fun v31 he32 => ?_)
          refine im (go_callS (pc := 83) (Y := YX1_bricks) (Yc := YX1_isWon) (y := yX1_isWon) (n := 1) [iV v29] [] rfl (mX1_isWon s28 he32) YOK_X1_isWon rfl q1325 q129 q1324 q1323 (Nat.le_of_ble_eq_true rfl) (Nat.le_of_ble_eq_true rfl) (Nat.le_of_ble_eq_true rfl) dX1_bricks_83 (st2 := [iV v31]) rfl) ?_
          clear he32
          refine flp2 (go_if_eq (pc := 86) (Y := YX1_bricks) 91 dX1_bricks_86 (by decide)) ?_ ?_
          · refine e2 (fun q0 q1 => ?_)
            subst q0
            subst q1
            exact go_sub [0, 1, 2, 3] rfl hj91
          · refine im (go_iload_n (pc := 89) (Y := YX1_bricks) 3 dX1_bricks_89 rfl rfl) ?_
            refine im (go_istore_n (pc := 90) (Y := YX1_bricks) (ls2 := [(2, iV v10), (0, rV (some this)), (1, iV i1), (3, iV v10)]) dX1_bricks_90 rfl (Nat.le_of_ble_eq_true rfl) rfl) ?_
            refine e2 (fun q0 q1 => ?_)
            subst q0
            subst q1
            exact go_sub [1, 2, 0, 3] rfl hj91
        · refine im (go_iload_n (pc := 47) (Y := YX1_bricks) 3 dX1_bricks_47 rfl rfl) ?_
          refine bpg (fun v33 he34 => ?_)
          refine im (go_callS (pc := 48) (Y := YX1_bricks) (Yc := YX1_bits) (y := yX1_bits) (n := 1) [iV v10] [] rfl (mX1_bits s8 he34) YOK_X1_bits rfl q1314 q129 q1313 q1312 (Nat.le_of_ble_eq_true rfl) (Nat.le_of_ble_eq_true rfl) (Nat.le_of_ble_eq_true rfl) dX1_bricks_48 (st2 := [iV v33]) rfl) ?_
          clear he34
          refine im (go_iload_n (pc := 51) (Y := YX1_bricks) 2 dX1_bricks_51 rfl rfl) ?_
          refine bpg (fun v35 he36 => ?_)
          refine im (go_callS (pc := 52) (Y := YX1_bricks) (Yc := YX1_bits) (y := yX1_bits) (n := 1) [iV v9] [iV v33] rfl (mX1_bits s8 he36) YOK_X1_bits rfl q1314 q129 q1313 q1312 (Nat.le_of_ble_eq_true rfl) (Nat.le_of_ble_eq_true rfl) (Nat.le_of_ble_eq_true rfl) dX1_bricks_52 (st2 := [iV v35, iV v33]) rfl) ?_
          clear he36
          refine flp2 (go_icmp_lt (pc := 55) (Y := YX1_bricks) 61 dX1_bricks_55 (by decide)) ?_ ?_
          · refine im (go_aload_n (pc := 61) (Y := YX1_bricks) 0 dX1_bricks_61 rfl rfl) ?_
            refine kdg (fun k37 => ?_)
            refine bdg (fun s38 v39 he40 => ?_)
            refine im (go_callV (pc := 62) (Y := YX1_bricks) (Yc := YX1_tries) (y := yX1_tries) (n := 0) (c0 := 0) (q := (RX1, TX1, 25)) this [] [] rfl rfl k37 (mX1_tries s8 he40) YOK_X1_tries rfl q1345 q129 q1344 qs46 q1342 (Nat.le_of_ble_eq_true rfl) (Nat.le_of_ble_eq_true rfl) (Nat.le_of_ble_eq_true rfl) dX1_bricks_62 (st2 := [rV v39]) rfl) ?_
            clear he40
            refine im (go_dup (pc := 65) (Y := YX1_bricks) dX1_bricks_65 rfl) ?_
            refine flp (go_gI (pc := 66) (Y := YX1_bricks) fF77 (by decide) q1063 (Or.inl rfl) dX1_bricks_66) (fun v41 => ?_)
            refine im (go_iload_n (pc := 69) (Y := YX1_bricks) 3 dX1_bricks_69 rfl rfl) ?_
            refine im (go_ior (pc := 70) (Y := YX1_bricks) dX1_bricks_70) ?_
            refine flp (go_pI (pc := 71) (Y := YX1_bricks) fF77 (by decide) q1063 (Or.inl rfl) (Or.inl rfl) rfl rfl rfl dX1_bricks_71) (fun s42 => ?_)
            refine im (go_aload_n (pc := 74) (Y := YX1_bricks) 0 dX1_bricks_74 rfl rfl) ?_
            refine im (go_aload_n (pc := 75) (Y := YX1_bricks) 0 dX1_bricks_75 rfl rfl) ?_
            refine flp (go_gR (pc := 76) (Y := YX1_bricks) fF1003 (by decide) q203 (Or.inl rfl) dX1_bricks_76) (fun v43 => ?_)
            refine im (go_iload_n (pc := 79) (Y := YX1_bricks) 1 dX1_bricks_79 rfl rfl) ?_
            refine kdg (fun k44 => ?_)
            refine bdg (fun s45 v46 he47 => ?_)
            refine im (go_callV (pc := 80) (Y := YX1_bricks) (Yc := YX1_brawlsOn) (y := yX1_brawlsOn) (n := 2) (c0 := 0) (q := (RX1, TX1, 25)) this [rV v43, iV i1] [] rfl rfl k44 (mX1_brawlsOn s42 he47) YOK_X1_brawlsOn rfl q1266 q129 q1265 qs42 q1263 (Nat.le_of_ble_eq_true rfl) (Nat.le_of_ble_eq_true rfl) (Nat.le_of_ble_eq_true rfl) dX1_bricks_80 (st2 := [iV v46]) rfl) ?_
            clear he47
            refine bpg (fun v48 he49 => ?_)
            refine im (go_callS (pc := 83) (Y := YX1_bricks) (Yc := YX1_isWon) (y := yX1_isWon) (n := 1) [iV v46] [] rfl (mX1_isWon s45 he49) YOK_X1_isWon rfl q1325 q129 q1324 q1323 (Nat.le_of_ble_eq_true rfl) (Nat.le_of_ble_eq_true rfl) (Nat.le_of_ble_eq_true rfl) dX1_bricks_83 (st2 := [iV v48]) rfl) ?_
            clear he49
            refine flp2 (go_if_eq (pc := 86) (Y := YX1_bricks) 91 dX1_bricks_86 (by decide)) ?_ ?_
            · refine e2 (fun q0 q1 => ?_)
              subst q0
              subst q1
              exact go_sub [0, 1, 2, 3] rfl hj91
            · refine im (go_iload_n (pc := 89) (Y := YX1_bricks) 3 dX1_bricks_89 rfl rfl) ?_
              refine im (go_istore_n (pc := 90) (Y := YX1_bricks) (ls2 := [(2, iV v10), (0, rV (some this)), (1, iV i1), (3, iV v10)]) dX1_bricks_90 rfl (Nat.le_of_ble_eq_true rfl) rfl) ?_
              refine e2 (fun q0 q1 => ?_)
              subst q0
              subst q1
              exact go_sub [1, 2, 0, 3] rfl hj91
          · refine im (go_goto (pc := 58) (Y := YX1_bricks) 91 dX1_bricks_58 (by decide)) ?_
            refine e2 (fun q0 q1 => ?_)
            subst q0
            subst q1
            exact go_sub [0, 1, 2, 3] rfl hj91
      · refine e2 (fun q0 q1 => ?_)
        subst q0
        subst q1
        exact go_sub [0, 1, 2, 3] rfl hj91
theorem mX1_bricks {G : gG} (s0 : St) {this : Nat} {p0 : Int32} {sE : St} {vE : Int32} (h : sX1_bricks s0 this p0 = some (sE, vE)) : Mt G YX1_bricks yX1_bricks [rV (some this), iV p0] s0 (some (iV vE)) sE := by
  refine go_start (ls0 := [(0, rV (some this)), (1, iV p0)]) (by decide +kernel) rfl (fun h => by cases h) (Nat.le_of_ble_eq_true rfl) rfl ?_
  revert h
  unfold sX1_bricks
  refine im (go_aload_n (pc := 0) (Y := YX1_bricks) 0 dX1_bricks_0 rfl rfl) ?_
  refine im (go_iload_n (pc := 1) (Y := YX1_bricks) 1 dX1_bricks_1 rfl rfl) ?_
  refine kdg (fun k1 => ?_)
  refine bpg (fun v2 he3 => ?_)
  refine im (go_callV (pc := 2) (Y := YX1_bricks) (Yc := YX1_isQuarrel) (y := yX1_isQuarrel) (n := 1) (c0 := 0) (q := (RX1, TX1, 25)) this [iV p0] [] rfl rfl k1 (mX1_isQuarrel s0 he3) YOK_X1_isQuarrel rfl q1184 q129 q1183 qs36 q1181 (Nat.le_of_ble_eq_true rfl) (Nat.le_of_ble_eq_true rfl) (Nat.le_of_ble_eq_true rfl) dX1_bricks_2 (st2 := [iV v2]) rfl) ?_
  clear he3
  refine flp2 (go_if_ne (pc := 5) (Y := YX1_bricks) 14 dX1_bricks_5 (by decide)) ?_ ?_
  · refine im (go_aload_n (pc := 8) (Y := YX1_bricks) 0 dX1_bricks_8 rfl rfl) ?_
    refine im (go_iconst (pc := 9) (Y := YX1_bricks) (v := 1) dX1_bricks_9 rfl) ?_
    refine kdg (fun k4 => ?_)
    refine bdg (fun s5 v6 he7 => ?_)
    refine im (go_callV (pc := 10) (Y := YX1_bricks) (Yc := YX1_refused) (y := yX1_refused) (n := 1) (c0 := 0) (q := (RX1, TX1, 25)) this [iV 1] [] rfl rfl k4 (mX1_refused s0 he7) YOK_X1_refused rfl q288 q129 q287 qs0 q285 (Nat.le_of_ble_eq_true rfl) (Nat.le_of_ble_eq_true rfl) (Nat.le_of_ble_eq_true rfl) dX1_bricks_10 (st2 := [iV v6]) rfl) ?_
    clear he7
    refine e2 (fun q0 q1 => ?_)
    subst q0
    subst q1
    exact go_iret (pc := 13) (Y := YX1_bricks) rfl dX1_bricks_13
  · refine im (go_bipush (pc := 14) (Y := YX1_bricks) (v := -2) dX1_bricks_14 rfl) ?_
    refine im (go_istore_n (pc := 16) (Y := YX1_bricks) (ls2 := [(2, iV (-2)), (0, rV (some this)), (1, iV p0)]) dX1_bricks_16 rfl (Nat.le_of_ble_eq_true rfl) rfl) ?_
    refine im (go_iconst (pc := 17) (Y := YX1_bricks) (v := 0) dX1_bricks_17 rfl) ?_
    refine im (go_istore_n (pc := 18) (Y := YX1_bricks) (ls2 := [(3, iV 0), (2, iV (-2)), (0, rV (some this)), (1, iV p0)]) dX1_bricks_18 rfl (Nat.le_of_ble_eq_true rfl) rfl) ?_
    refine b2g (fun s52 v53 he58 h59 => ?_)
    refine go_sub [2, 3, 1, 0] rfl (sX1_bricks_L19_go this p0 FU _ _ _ _ _ he58 ?_)
    clear he58
    revert h59
    refine im (go_aload_n (pc := 97) (Y := YX1_bricks) 0 dX1_bricks_97 rfl rfl) ?_
    refine im (go_iload_n (pc := 98) (Y := YX1_bricks) 1 dX1_bricks_98 rfl rfl) ?_
    refine kdg (fun k54 => ?_)
    refine bdg (fun s55 v56 he57 => ?_)
    refine im (go_callV (pc := 99) (Y := YX1_bricks) (Yc := YX1_well) (y := yX1_well) (n := 1) (c0 := 0) (q := (RX1, TX1, 25)) this [iV v53] [] rfl rfl k54 (mX1_well s52 he57) YOK_X1_well rfl q1102 q129 q1101 qs29 q1099 (Nat.le_of_ble_eq_true rfl) (Nat.le_of_ble_eq_true rfl) (Nat.le_of_ble_eq_true rfl) dX1_bricks_99 (st2 := [iV v56]) rfl) ?_
    clear he57
    refine e2 (fun q0 q1 => ?_)
    subst q0
    subst q1
    exact go_iret (pc := 102) (Y := YX1_bricks) rfl dX1_bricks_102
abbrev YX1_free : mY := (RX1, cX1_free, 4, (Option.some .int), 5, 108, false)
theorem YOK_X1_free : YOK yX1_free 1 := ⟨⟨by decide +kernel, by decide +kernel⟩, by decide +kernel⟩
theorem sX1_free_L4_go {G : gG} {s0 sE : St} {rE : Option V3} (s1 : St) (this : Nat) (i1 : Int32) : ∀ (n : Nat) (v2 : Int32) (v3 : Int32) (v4 : Int32), sX1_free_L4 s1 this i1 n v2 v3 = some v4 → Go G YX1_free s0 sE rE 70 [(2, iV v4)] [] s1 → Go G YX1_free s0 sE rE 4 [(0, rV (some this)), (1, iV i1), (2, iV v2), (3, iV v3)] [] s1 := by
  intro n
  induction n with
  | zero => intro v2 v3 v4 h hx; rw [sX1_free_L4] at h; cases h
  | succ n ih =>
    intro v2 v3 v4 h hx
    revert h
    rw [sX1_free_L4]
    refine im (go_iload_n (pc := 4) (Y := YX1_free) 3 dX1_free_4 rfl rfl) ?_
    refine im (go_aload_n (pc := 5) (Y := YX1_free) 0 dX1_free_5 rfl rfl) ?_
    refine kdg (fun k5 => ?_)
    refine bpg (fun v6 he7 => ?_)
    refine im (go_callV (pc := 6) (Y := YX1_free) (Yc := YX1_people) (y := yX1_people) (n := 0) (c0 := 0) (q := (RX1, TX1, 25)) this [] [iV v3] rfl rfl k5 (mX1_people s1 he7) YOK_X1_people rfl q1122 q129 q1121 qs31 q1119 (Nat.le_of_ble_eq_true rfl) (Nat.le_of_ble_eq_true rfl) (Nat.le_of_ble_eq_true rfl) dX1_free_6 (st2 := [iV v6, iV v3]) rfl) ?_
    clear he7
    refine flp2 (go_icmp_ge (pc := 9) (Y := YX1_free) 70 dX1_free_9 (by decide)) ?_ ?_
    · refine e1 (fun q0 => ?_)
      subst q0
      exact go_sub [2] rfl hx
    · refine im (go_iload_n (pc := 12) (Y := YX1_free) 2 dX1_free_12 rfl rfl) ?_
      refine im (go_aload_n (pc := 13) (Y := YX1_free) 0 dX1_free_13 rfl rfl) ?_
      refine flp (go_gR (pc := 14) (Y := YX1_free) fF1001 (by decide) q201 (Or.inl rfl) dX1_free_14) (fun v8 => ?_)
      refine im (go_iload_n (pc := 17) (Y := YX1_free) 3 dX1_free_17 rfl rfl) ?_
      refine ivg (fun w9 r10 k11 => ?_)
      refine bpg (fun v12 he13 => ?_)
      refine im (go_callV (pc := 18) (Y := YX1_free) (Yc := YX5_person) (y := yX5_person) (n := 1) (c0 := 5) (q := (RX5, TX5, 10)) w9 [iV v3] [iV v2] (by rw [r10]; rfl) rfl k11 (mX5_person s1 he13) YOK_X5_person rfl q986 q136 q984 q985 q1123 (Nat.le_of_ble_eq_true rfl) (Nat.le_of_ble_eq_true rfl) (Nat.le_of_ble_eq_true rfl) dX1_free_18 (st2 := [rV v12, iV v2]) rfl) ?_
      clear he13
      refine flp (go_gI (pc := 21) (Y := YX1_free) fF69 (by decide) q909 (Or.inl rfl) dX1_free_21) (fun v14 => ?_)
      refine im (go_bipush (pc := 24) (Y := YX1_free) (v := -2) dX1_free_24 rfl) ?_
      refine bpg (fun v15 he24 h25 => ?_)
      have hj62 : Go G YX1_free s0 sE rE 62 [(0, rV (some this)), (1, iV i1), (3, iV v3)] [iV v15, iV v2] s1 := by
        clear he24
        revert h25
        refine im (go_ior (pc := 62) (Y := YX1_free) dX1_free_62) ?_
        refine im (go_istore_n (pc := 63) (Y := YX1_free) (ls2 := [(2, iV (v2 ||| v15)), (0, rV (some this)), (1, iV i1), (3, iV v3)]) dX1_free_63 rfl (Nat.le_of_ble_eq_true rfl) rfl) ?_
        refine im (go_iinc (pc := 64) (Y := YX1_free) 3 (v := (v3 + 1)) (ls2 := [(3, iV (v3 + 1)), (2, iV (v2 ||| v15)), (0, rV (some this)), (1, iV i1)]) dX1_free_64 rfl rfl (Nat.le_of_ble_eq_true rfl) rfl) ?_
        refine im (go_goto (pc := 67) (Y := YX1_free) 4 dX1_free_67 (by decide)) ?_
        exact fun hq => go_sub [2, 3, 1, 0] rfl (ih _ _ _ hq hx)
      clear h25
      revert he24
      refine flp2 (go_icmp_eq (pc := 26) (Y := YX1_free) 61 dX1_free_26 (by decide)) ?_ ?_
      · refine im (go_iconst (pc := 61) (Y := YX1_free) (v := 0) dX1_free_61 rfl) ?_
        refine e1 (fun q0 => ?_)
        subst q0
        exact go_sub [0, 1, 3] rfl hj62
      · refine im (go_aload_n (pc := 29) (Y := YX1_free) 0 dX1_free_29 rfl rfl) ?_
        refine flp (go_gR (pc := 30) (Y := YX1_free) fF1002 (by decide) q202 (Or.inl rfl) dX1_free_30) (fun v16 => ?_)
        refine flp (go_gR (pc := 33) (Y := YX1_free) fF1036 (by decide) q1061 (Or.inl rfl) dX1_free_33) (fun v17 => ?_)
        refine im (go_iload_n (pc := 36) (Y := YX1_free) 3 dX1_free_36 rfl rfl) ?_
        refine flp (go_lI2 (pc := 37) (Y := YX1_free) dX1_free_37) (fun v18 => ?_)
        refine im (go_bipush (pc := 38) (Y := YX1_free) (v := -2) dX1_free_38 rfl) ?_
        refine flp2 (go_icmp_ne (pc := 40) (Y := YX1_free) 61 dX1_free_40 (by decide)) ?_ ?_
        · refine im (go_aload_n (pc := 43) (Y := YX1_free) 0 dX1_free_43 rfl rfl) ?_
          refine im (go_iload_n (pc := 44) (Y := YX1_free) 3 dX1_free_44 rfl rfl) ?_
          refine kdg (fun k19 => ?_)
          refine bpg (fun v20 he21 => ?_)
          refine im (go_callV (pc := 45) (Y := YX1_free) (Yc := YX1_quarrelsOf) (y := yX1_quarrelsOf) (n := 1) (c0 := 0) (q := (RX1, TX1, 25)) this [iV v3] [iV v2] rfl rfl k19 (mX1_quarrelsOf s1 he21) YOK_X1_quarrelsOf rfl q1154 q129 q1153 qs32 q1151 (Nat.le_of_ble_eq_true rfl) (Nat.le_of_ble_eq_true rfl) (Nat.le_of_ble_eq_true rfl) dX1_free_45 (st2 := [iV v20, iV v2]) rfl) ?_
          clear he21
          refine im (go_iload_n (pc := 48) (Y := YX1_free) 1 dX1_free_48 rfl rfl) ?_
          refine bpg (fun v22 he23 => ?_)
          refine im (go_callS (pc := 49) (Y := YX1_free) (Yc := YX1_has) (y := yX1_has) (n := 2) [iV v20, iV i1] [iV v2] rfl (mX1_has s1 he23) YOK_X1_has rfl q1176 q129 q1175 q1174 (Nat.le_of_ble_eq_true rfl) (Nat.le_of_ble_eq_true rfl) (Nat.le_of_ble_eq_true rfl) dX1_free_49 (st2 := [iV v22, iV v2]) rfl) ?_
          clear he23
          refine flp2 (go_if_ne (pc := 52) (Y := YX1_free) 61 dX1_free_52 (by decide)) ?_ ?_
          · refine im (go_iconst (pc := 55) (Y := YX1_free) (v := 1) dX1_free_55 rfl) ?_
            refine im (go_iload_n (pc := 56) (Y := YX1_free) 3 dX1_free_56 rfl rfl) ?_
            refine im (go_ishl (pc := 57) (Y := YX1_free) dX1_free_57) ?_
            refine im (go_goto (pc := 58) (Y := YX1_free) 62 dX1_free_58 (by decide)) ?_
            refine e1 (fun q0 => ?_)
            subst q0
            exact go_sub [0, 1, 3] rfl hj62
          · refine im (go_iconst (pc := 61) (Y := YX1_free) (v := 0) dX1_free_61 rfl) ?_
            refine e1 (fun q0 => ?_)
            subst q0
            exact go_sub [0, 1, 3] rfl hj62
        · refine im (go_iconst (pc := 61) (Y := YX1_free) (v := 0) dX1_free_61 rfl) ?_
          refine e1 (fun q0 => ?_)
          subst q0
          exact go_sub [0, 1, 3] rfl hj62
theorem mX1_free {G : gG} (s0 : St) {this : Nat} {p0 : Int32} {vE : Int32} (h : sX1_free s0 this p0 = some vE) : Mt G YX1_free yX1_free [rV (some this), iV p0] s0 (some (iV vE)) s0 := by
  refine go_start (ls0 := [(0, rV (some this)), (1, iV p0)]) (by decide +kernel) rfl (fun h => by cases h) (Nat.le_of_ble_eq_true rfl) rfl ?_
  revert h
  unfold sX1_free
  refine im (go_iconst (pc := 0) (Y := YX1_free) (v := 0) dX1_free_0 rfl) ?_
  refine im (go_istore_n (pc := 1) (Y := YX1_free) (ls2 := [(2, iV 0), (0, rV (some this)), (1, iV p0)]) dX1_free_1 rfl (Nat.le_of_ble_eq_true rfl) rfl) ?_
  refine im (go_iconst (pc := 2) (Y := YX1_free) (v := 0) dX1_free_2 rfl) ?_
  refine im (go_istore_n (pc := 3) (Y := YX1_free) (ls2 := [(3, iV 0), (2, iV 0), (0, rV (some this)), (1, iV p0)]) dX1_free_3 rfl (Nat.le_of_ble_eq_true rfl) rfl) ?_
  refine bpg (fun v26 he27 h28 => ?_)
  refine go_sub [2, 3, 1, 0] rfl (sX1_free_L4_go s0 this p0 FU _ _ _ he27 ?_)
  clear he27
  revert h28
  refine im (go_iload_n (pc := 70) (Y := YX1_free) 0 dX1_free_70 rfl rfl) ?_
  refine e1 (fun q0 => ?_)
  subst q0
  exact go_iret (pc := 71) (Y := YX1_free) rfl dX1_free_71
abbrev YX1_priceOf : mY := (RX1, cX1_priceOf, 4, (Option.some .int), 4, 85, false)
theorem YOK_X1_priceOf : YOK yX1_priceOf 1 := ⟨⟨by decide +kernel, by decide +kernel⟩, by decide +kernel⟩
theorem sX1_priceOf_L4_go {G : gG} {s0 sE : St} {rE : Option V3} (s1 : St) (this : Nat) (i1 : Int32) : ∀ (n : Nat) (v2 : Int32) (v3 : Int32) (v4 : Int32), sX1_priceOf_L4 s1 this i1 n v2 v3 = some v4 → Go G YX1_priceOf s0 sE rE 44 [(2, iV v4)] [] s1 → Go G YX1_priceOf s0 sE rE 4 [(0, rV (some this)), (1, iV i1), (2, iV v2), (3, iV v3)] [] s1 := by
  intro n
  induction n with
  | zero => intro v2 v3 v4 h hx; rw [sX1_priceOf_L4] at h; cases h
  | succ n ih =>
    intro v2 v3 v4 h hx
    revert h
    rw [sX1_priceOf_L4]
    refine im (go_iload_n (pc := 4) (Y := YX1_priceOf) 3 dX1_priceOf_4 rfl rfl) ?_
    refine im (go_aload_n (pc := 5) (Y := YX1_priceOf) 0 dX1_priceOf_5 rfl rfl) ?_
    refine kdg (fun k5 => ?_)
    refine bpg (fun v6 he7 => ?_)
    refine im (go_callV (pc := 6) (Y := YX1_priceOf) (Yc := YX1_people) (y := yX1_people) (n := 0) (c0 := 0) (q := (RX1, TX1, 25)) this [] [iV v3] rfl rfl k5 (mX1_people s1 he7) YOK_X1_people rfl q1122 q129 q1121 qs31 q1119 (Nat.le_of_ble_eq_true rfl) (Nat.le_of_ble_eq_true rfl) (Nat.le_of_ble_eq_true rfl) dX1_priceOf_6 (st2 := [iV v6, iV v3]) rfl) ?_
    clear he7
    refine flp2 (go_icmp_ge (pc := 9) (Y := YX1_priceOf) 44 dX1_priceOf_9 (by decide)) ?_ ?_
    · refine e1 (fun q0 => ?_)
      subst q0
      exact go_sub [2] rfl hx
    · refine im (go_iload_n (pc := 12) (Y := YX1_priceOf) 2 dX1_priceOf_12 rfl rfl) ?_
      refine im (go_iload_n (pc := 13) (Y := YX1_priceOf) 1 dX1_priceOf_13 rfl rfl) ?_
      refine im (go_iload_n (pc := 14) (Y := YX1_priceOf) 3 dX1_priceOf_14 rfl rfl) ?_
      refine bpg (fun v8 he9 => ?_)
      refine im (go_callS (pc := 15) (Y := YX1_priceOf) (Yc := YX1_has) (y := yX1_has) (n := 2) [iV i1, iV v3] [iV v2] rfl (mX1_has s1 he9) YOK_X1_has rfl q1176 q129 q1175 q1174 (Nat.le_of_ble_eq_true rfl) (Nat.le_of_ble_eq_true rfl) (Nat.le_of_ble_eq_true rfl) dX1_priceOf_15 (st2 := [iV v8, iV v2]) rfl) ?_
      clear he9
      refine bpg (fun v10 he18 h19 => ?_)
      have hj36 : Go G YX1_priceOf s0 sE rE 36 [(0, rV (some this)), (1, iV i1), (3, iV v3)] [iV v10, iV v2] s1 := by
        clear he18
        revert h19
        refine im (go_iadd (pc := 36) (Y := YX1_priceOf) dX1_priceOf_36) ?_
        refine im (go_istore_n (pc := 37) (Y := YX1_priceOf) (ls2 := [(2, iV (v2 + v10)), (0, rV (some this)), (1, iV i1), (3, iV v3)]) dX1_priceOf_37 rfl (Nat.le_of_ble_eq_true rfl) rfl) ?_
        refine im (go_iinc (pc := 38) (Y := YX1_priceOf) 3 (v := (v3 + 1)) (ls2 := [(3, iV (v3 + 1)), (2, iV (v2 + v10)), (0, rV (some this)), (1, iV i1)]) dX1_priceOf_38 rfl rfl (Nat.le_of_ble_eq_true rfl) rfl) ?_
        refine im (go_goto (pc := 41) (Y := YX1_priceOf) 4 dX1_priceOf_41 (by decide)) ?_
        exact fun hq => go_sub [2, 3, 1, 0] rfl (ih _ _ _ hq hx)
      clear h19
      revert he18
      refine flp2 (go_if_eq (pc := 18) (Y := YX1_priceOf) 35 dX1_priceOf_18 (by decide)) ?_ ?_
      · refine im (go_iconst (pc := 35) (Y := YX1_priceOf) (v := 0) dX1_priceOf_35 rfl) ?_
        refine e1 (fun q0 => ?_)
        subst q0
        exact go_sub [0, 1, 3] rfl hj36
      · refine im (go_aload_n (pc := 21) (Y := YX1_priceOf) 0 dX1_priceOf_21 rfl rfl) ?_
        refine flp (go_gR (pc := 22) (Y := YX1_priceOf) fF1001 (by decide) q201 (Or.inl rfl) dX1_priceOf_22) (fun v11 => ?_)
        refine im (go_iload_n (pc := 25) (Y := YX1_priceOf) 3 dX1_priceOf_25 rfl rfl) ?_
        refine ivg (fun w12 r13 k14 => ?_)
        refine bpg (fun v15 he16 => ?_)
        refine im (go_callV (pc := 26) (Y := YX1_priceOf) (Yc := YX5_person) (y := yX5_person) (n := 1) (c0 := 5) (q := (RX5, TX5, 10)) w12 [iV v3] [iV v2] (by rw [r13]; rfl) rfl k14 (mX5_person s1 he16) YOK_X5_person rfl q986 q136 q984 q985 q1123 (Nat.le_of_ble_eq_true rfl) (Nat.le_of_ble_eq_true rfl) (Nat.le_of_ble_eq_true rfl) dX1_priceOf_26 (st2 := [rV v15, iV v2]) rfl) ?_
        clear he16
        refine flp (go_gI (pc := 29) (Y := YX1_priceOf) fF69 (by decide) q909 (Or.inl rfl) dX1_priceOf_29) (fun v17 => ?_)
        refine im (go_goto (pc := 32) (Y := YX1_priceOf) 36 dX1_priceOf_32 (by decide)) ?_
        refine e1 (fun q0 => ?_)
        subst q0
        exact go_sub [0, 1, 3] rfl hj36
theorem mX1_priceOf {G : gG} (s0 : St) {this : Nat} {p0 : Int32} {vE : Int32} (h : sX1_priceOf s0 this p0 = some vE) : Mt G YX1_priceOf yX1_priceOf [rV (some this), iV p0] s0 (some (iV vE)) s0 := by
  refine go_start (ls0 := [(0, rV (some this)), (1, iV p0)]) (by decide +kernel) rfl (fun h => by cases h) (Nat.le_of_ble_eq_true rfl) rfl ?_
  revert h
  unfold sX1_priceOf
  refine im (go_iconst (pc := 0) (Y := YX1_priceOf) (v := 0) dX1_priceOf_0 rfl) ?_
  refine im (go_istore_n (pc := 1) (Y := YX1_priceOf) (ls2 := [(2, iV 0), (0, rV (some this)), (1, iV p0)]) dX1_priceOf_1 rfl (Nat.le_of_ble_eq_true rfl) rfl) ?_
  refine im (go_iconst (pc := 2) (Y := YX1_priceOf) (v := 0) dX1_priceOf_2 rfl) ?_
  refine im (go_istore_n (pc := 3) (Y := YX1_priceOf) (ls2 := [(3, iV 0), (2, iV 0), (0, rV (some this)), (1, iV p0)]) dX1_priceOf_3 rfl (Nat.le_of_ble_eq_true rfl) rfl) ?_
  refine bpg (fun v20 he21 h22 => ?_)
  refine go_sub [2, 3, 1, 0] rfl (sX1_priceOf_L4_go s0 this p0 FU _ _ _ he21 ?_)
  clear he21
  revert h22
  refine im (go_iload_n (pc := 44) (Y := YX1_priceOf) 0 dX1_priceOf_44 rfl rfl) ?_
  refine e1 (fun q0 => ?_)
  subst q0
  exact go_iret (pc := 45) (Y := YX1_priceOf) rfl dX1_priceOf_45
abbrev YX1_stopsBy : mY := (RX1, cX1_stopsBy, 6, (Option.some .int), 8, 183, false)
theorem YOK_X1_stopsBy : YOK yX1_stopsBy 1 := ⟨⟨by decide +kernel, by decide +kernel⟩, by decide +kernel⟩
theorem sX1_stopsBy_L58_go {G : gG} {s0 sE : St} {rE : Option V3} (this : Nat) (i1 : Int32) (i2 : Int32) (i3 : Int32) (i4 : Int32) : ∀ (n : Nat) (s15 : St) (v16 : Int32) (s17 : St), sX1_stopsBy_L58 this i1 i4 n s15 v16 = some s17 → Go G YX1_stopsBy s0 sE rE 105 [(0, rV (some this)), (1, iV i1), (2, iV i2), (3, iV i3), (4, iV i4)] [] s17 → Go G YX1_stopsBy s0 sE rE 58 [(0, rV (some this)), (1, iV i1), (2, iV i2), (3, iV i3), (4, iV i4), (5, iV v16)] [] s15 := by
  intro n
  induction n with
  | zero => intro s15 v16 s17 h hx; rw [sX1_stopsBy_L58] at h; cases h
  | succ n ih =>
    intro s15 v16 s17 h hx
    revert h
    rw [sX1_stopsBy_L58]
    refine im (go_iload (pc := 58) (Y := YX1_stopsBy) 5 dX1_stopsBy_58 rfl) ?_
    refine im (go_aload_n (pc := 60) (Y := YX1_stopsBy) 0 dX1_stopsBy_60 rfl rfl) ?_
    refine kdg (fun k18 => ?_)
    refine bpg (fun v19 he20 => ?_)
    refine im (go_callV (pc := 61) (Y := YX1_stopsBy) (Yc := YX1_people) (y := yX1_people) (n := 0) (c0 := 0) (q := (RX1, TX1, 25)) this [] [iV v16] rfl rfl k18 (mX1_people s15 he20) YOK_X1_people rfl q1122 q129 q1121 qs31 q1119 (Nat.le_of_ble_eq_true rfl) (Nat.le_of_ble_eq_true rfl) (Nat.le_of_ble_eq_true rfl) dX1_stopsBy_61 (st2 := [iV v19, iV v16]) rfl) ?_
    clear he20
    refine flp2 (go_icmp_ge (pc := 64) (Y := YX1_stopsBy) 105 dX1_stopsBy_64 (by decide)) ?_ ?_
    · refine e1 (fun q0 => ?_)
      subst q0
      exact go_sub [0, 1, 2, 3, 4] rfl hx
    · refine im (go_iload (pc := 67) (Y := YX1_stopsBy) 4 dX1_stopsBy_67 rfl) ?_
      refine im (go_iload (pc := 69) (Y := YX1_stopsBy) 5 dX1_stopsBy_69 rfl) ?_
      refine bpg (fun v21 he22 => ?_)
      refine im (go_callS (pc := 71) (Y := YX1_stopsBy) (Yc := YX1_has) (y := yX1_has) (n := 2) [iV i4, iV v16] [] rfl (mX1_has s15 he22) YOK_X1_has rfl q1176 q129 q1175 q1174 (Nat.le_of_ble_eq_true rfl) (Nat.le_of_ble_eq_true rfl) (Nat.le_of_ble_eq_true rfl) dX1_stopsBy_71 (st2 := [iV v21]) rfl) ?_
      clear he22
      refine bpg (fun s23 he34 h35 => ?_)
      have hj99 : Go G YX1_stopsBy s0 sE rE 99 [(0, rV (some this)), (1, iV i1), (2, iV i2), (3, iV i3), (4, iV i4), (5, iV v16)] [] s23 := by
        clear he34
        revert h35
        refine im (go_iinc (pc := 99) (Y := YX1_stopsBy) 5 (v := (v16 + 1)) (ls2 := [(5, iV (v16 + 1)), (0, rV (some this)), (1, iV i1), (2, iV i2), (3, iV i3), (4, iV i4)]) dX1_stopsBy_99 rfl rfl (Nat.le_of_ble_eq_true rfl) rfl) ?_
        refine im (go_goto (pc := 102) (Y := YX1_stopsBy) 58 dX1_stopsBy_102 (by decide)) ?_
        exact fun hq => go_sub [1, 2, 3, 4, 5, 0] rfl (ih _ _ _ hq hx)
      clear h35
      revert he34
      refine flp2 (go_if_eq (pc := 74) (Y := YX1_stopsBy) 99 dX1_stopsBy_74 (by decide)) ?_ ?_
      · refine e1 (fun q0 => ?_)
        subst q0
        exact go_sub [0, 1, 2, 3, 4, 5] rfl hj99
      · refine im (go_aload_n (pc := 77) (Y := YX1_stopsBy) 0 dX1_stopsBy_77 rfl rfl) ?_
        refine flp (go_gR (pc := 78) (Y := YX1_stopsBy) fF1003 (by decide) q203 (Or.inl rfl) dX1_stopsBy_78) (fun v24 => ?_)
        refine flp (go_gR (pc := 81) (Y := YX1_stopsBy) fF1036 (by decide) q1061 (Or.inl rfl) dX1_stopsBy_81) (fun v25 => ?_)
        refine im (go_iload (pc := 84) (Y := YX1_stopsBy) 5 dX1_stopsBy_84 rfl) ?_
        refine im (go_aload_n (pc := 86) (Y := YX1_stopsBy) 0 dX1_stopsBy_86 rfl rfl) ?_
        refine flp (go_gR (pc := 87) (Y := YX1_stopsBy) fF1001 (by decide) q201 (Or.inl rfl) dX1_stopsBy_87) (fun v26 => ?_)
        refine im (go_iload_n (pc := 90) (Y := YX1_stopsBy) 1 dX1_stopsBy_90 rfl rfl) ?_
        refine ivg (fun w27 r28 k29 => ?_)
        refine bpg (fun v30 he31 => ?_)
        refine im (go_callV (pc := 91) (Y := YX1_stopsBy) (Yc := YX5_quarrel) (y := yX5_quarrel) (n := 1) (c0 := 5) (q := (RX5, TX5, 10)) w27 [iV i1] [iV v16, rV v25] (by rw [r28]; rfl) rfl k29 (mX5_quarrel s15 he31) YOK_X5_quarrel rfl q1043 q136 q1041 q1042 q1159 (Nat.le_of_ble_eq_true rfl) (Nat.le_of_ble_eq_true rfl) (Nat.le_of_ble_eq_true rfl) dX1_stopsBy_91 (st2 := [rV v30, iV v16, rV v25]) rfl) ?_
        clear he31
        refine flp (go_gI (pc := 94) (Y := YX1_stopsBy) fF73 (by decide) q1003 (Or.inl rfl) dX1_stopsBy_94) (fun v32 => ?_)
        refine im (go_i2b (pc := 97) (Y := YX1_stopsBy) dX1_stopsBy_97) ?_
        refine flp (go_tB (pc := 98) (Y := YX1_stopsBy) dX1_stopsBy_98) (fun s33 => ?_)
        refine e1 (fun q0 => ?_)
        subst q0
        exact go_sub [0, 1, 2, 3, 4, 5] rfl hj99
theorem sX1_stopsBy_L12_go {G : gG} {s0 sE : St} {rE : Option V3} (this : Nat) (i1 : Int32) (i2 : Int32) : ∀ (n : Nat) (s4 : St) (v5 : Int32) (v6 : Int32) (s7 : St) (v8 : Int32), sX1_stopsBy_L12 this i1 i2 n s4 v5 v6 = some (s7, v8) → Go G YX1_stopsBy s0 sE rE 126 [(3, iV v8)] [] s7 → Go G YX1_stopsBy s0 sE rE 12 [(0, rV (some this)), (1, iV i1), (2, iV i2), (3, iV v5), (4, iV v6)] [] s4 := by
  intro n
  induction n with
  | zero => intro s4 v5 v6 s7 v8 h hx; rw [sX1_stopsBy_L12] at h; cases h
  | succ n ih =>
    intro s4 v5 v6 s7 v8 h hx
    revert h
    rw [sX1_stopsBy_L12]
    refine im (go_iload (pc := 12) (Y := YX1_stopsBy) 4 dX1_stopsBy_12 rfl) ?_
    refine im (go_iload_n (pc := 14) (Y := YX1_stopsBy) 2 dX1_stopsBy_14 rfl rfl) ?_
    refine flp2 (go_icmp_gt (pc := 15) (Y := YX1_stopsBy) 126 dX1_stopsBy_15 (by decide)) ?_ ?_
    · refine e2 (fun q0 q1 => ?_)
      subst q0
      subst q1
      exact go_sub [3] rfl hx
    · refine im (go_iload (pc := 18) (Y := YX1_stopsBy) 4 dX1_stopsBy_18 rfl) ?_
      refine im (go_iload_n (pc := 20) (Y := YX1_stopsBy) 2 dX1_stopsBy_20 rfl rfl) ?_
      refine im (go_iconst (pc := 21) (Y := YX1_stopsBy) (v := -1) dX1_stopsBy_21 rfl) ?_
      refine im (go_ixor (pc := 22) (Y := YX1_stopsBy) dX1_stopsBy_22) ?_
      refine im (go_iand (pc := 23) (Y := YX1_stopsBy) dX1_stopsBy_23) ?_
      refine b2g (fun s9 v10 he62 h63 => ?_)
      have hj120 : Go G YX1_stopsBy s0 sE rE 120 [(0, rV (some this)), (1, iV i1), (2, iV i2), (3, iV v10), (4, iV v6)] [] s9 := by
        clear he62
        revert h63
        refine im (go_iinc (pc := 120) (Y := YX1_stopsBy) 4 (v := (v6 + 1)) (ls2 := [(4, iV (v6 + 1)), (0, rV (some this)), (1, iV i1), (2, iV i2), (3, iV v10)]) dX1_stopsBy_120 rfl rfl (Nat.le_of_ble_eq_true rfl) rfl) ?_
        refine im (go_goto (pc := 123) (Y := YX1_stopsBy) 12 dX1_stopsBy_123 (by decide)) ?_
        exact fun hq => go_sub [1, 2, 3, 4, 0] rfl (ih _ _ _ _ _ hq hx)
      clear h63
      revert he62
      refine flp2 (go_if_ne (pc := 24) (Y := YX1_stopsBy) 120 dX1_stopsBy_24 (by decide)) ?_ ?_
      · refine im (go_iload_n (pc := 27) (Y := YX1_stopsBy) 3 dX1_stopsBy_27 rfl rfl) ?_
        refine im (go_bipush (pc := 28) (Y := YX1_stopsBy) (v := -2) dX1_stopsBy_28 rfl) ?_
        refine flp2 (go_icmp_eq (pc := 30) (Y := YX1_stopsBy) 50 dX1_stopsBy_30 (by decide)) ?_ ?_
        · refine im (go_aload_n (pc := 50) (Y := YX1_stopsBy) 0 dX1_stopsBy_50 rfl rfl) ?_
          refine kdg (fun k11 => ?_)
          refine bdg (fun s12 v13 he14 => ?_)
          refine im (go_callV (pc := 51) (Y := YX1_stopsBy) (Yc := YX1_tries) (y := yX1_tries) (n := 0) (c0 := 0) (q := (RX1, TX1, 25)) this [] [] rfl rfl k11 (mX1_tries s4 he14) YOK_X1_tries rfl q1345 q129 q1344 qs46 q1342 (Nat.le_of_ble_eq_true rfl) (Nat.le_of_ble_eq_true rfl) (Nat.le_of_ble_eq_true rfl) dX1_stopsBy_51 (st2 := [rV v13]) rfl) ?_
          clear he14
          refine im (go_pop (pc := 54) (Y := YX1_stopsBy) dX1_stopsBy_54 rfl) ?_
          refine im (go_iconst (pc := 55) (Y := YX1_stopsBy) (v := 0) dX1_stopsBy_55 rfl) ?_
          refine im (go_istore (pc := 56) (Y := YX1_stopsBy) (ls2 := [(5, iV 0), (0, rV (some this)), (1, iV i1), (2, iV i2), (3, iV v5), (4, iV v6)]) dX1_stopsBy_56 (Nat.le_of_ble_eq_true rfl) rfl) ?_
          refine bpg (fun s36 he42 h43 => ?_)
          refine go_sub [1, 2, 3, 4, 5, 0] rfl (sX1_stopsBy_L58_go this i1 i2 v5 v6 FU _ _ _ he42 ?_)
          clear he42
          revert h43
          refine im (go_aload_n (pc := 105) (Y := YX1_stopsBy) 0 dX1_stopsBy_105 rfl rfl) ?_
          refine im (go_aload_n (pc := 106) (Y := YX1_stopsBy) 0 dX1_stopsBy_106 rfl rfl) ?_
          refine flp (go_gR (pc := 107) (Y := YX1_stopsBy) fF1003 (by decide) q203 (Or.inl rfl) dX1_stopsBy_107) (fun v37 => ?_)
          refine im (go_iload_n (pc := 110) (Y := YX1_stopsBy) 1 dX1_stopsBy_110 rfl rfl) ?_
          refine kdg (fun k38 => ?_)
          refine bdg (fun s39 v40 he41 => ?_)
          refine im (go_callV (pc := 111) (Y := YX1_stopsBy) (Yc := YX1_brawlsOn) (y := yX1_brawlsOn) (n := 2) (c0 := 0) (q := (RX1, TX1, 25)) this [rV v37, iV i1] [] rfl rfl k38 (mX1_brawlsOn s36 he41) YOK_X1_brawlsOn rfl q1266 q129 q1265 qs42 q1263 (Nat.le_of_ble_eq_true rfl) (Nat.le_of_ble_eq_true rfl) (Nat.le_of_ble_eq_true rfl) dX1_stopsBy_111 (st2 := [iV v40]) rfl) ?_
          clear he41
          refine flp2 (go_if_ne (pc := 114) (Y := YX1_stopsBy) 120 dX1_stopsBy_114 (by decide)) ?_ ?_
          · refine im (go_iload (pc := 117) (Y := YX1_stopsBy) 4 dX1_stopsBy_117 rfl) ?_
            refine im (go_istore_n (pc := 119) (Y := YX1_stopsBy) (ls2 := [(3, iV v6), (0, rV (some this)), (1, iV i1), (2, iV i2), (4, iV v6)]) dX1_stopsBy_119 rfl (Nat.le_of_ble_eq_true rfl) rfl) ?_
            refine e2 (fun q0 q1 => ?_)
            subst q0
            subst q1
            exact go_sub [1, 2, 3, 0, 4] rfl hj120
          · refine e2 (fun q0 q1 => ?_)
            subst q0
            subst q1
            exact go_sub [0, 1, 2, 3, 4] rfl hj120
        · refine im (go_aload_n (pc := 33) (Y := YX1_stopsBy) 0 dX1_stopsBy_33 rfl rfl) ?_
          refine im (go_iload (pc := 34) (Y := YX1_stopsBy) 4 dX1_stopsBy_34 rfl) ?_
          refine kdg (fun k44 => ?_)
          refine bpg (fun v45 he46 => ?_)
          refine im (go_callV (pc := 36) (Y := YX1_stopsBy) (Yc := YX1_priceOf) (y := yX1_priceOf) (n := 1) (c0 := 0) (q := (RX1, TX1, 25)) this [iV v6] [] rfl rfl k44 (mX1_priceOf s4 he46) YOK_X1_priceOf rfl q1362 q129 q1361 qs49 q1359 (Nat.le_of_ble_eq_true rfl) (Nat.le_of_ble_eq_true rfl) (Nat.le_of_ble_eq_true rfl) dX1_stopsBy_36 (st2 := [iV v45]) rfl) ?_
          clear he46
          refine im (go_aload_n (pc := 39) (Y := YX1_stopsBy) 0 dX1_stopsBy_39 rfl rfl) ?_
          refine im (go_iload_n (pc := 40) (Y := YX1_stopsBy) 3 dX1_stopsBy_40 rfl rfl) ?_
          refine kdg (fun k47 => ?_)
          refine bpg (fun v48 he49 => ?_)
          refine im (go_callV (pc := 41) (Y := YX1_stopsBy) (Yc := YX1_priceOf) (y := yX1_priceOf) (n := 1) (c0 := 0) (q := (RX1, TX1, 25)) this [iV v5] [iV v45] rfl rfl k47 (mX1_priceOf s4 he49) YOK_X1_priceOf rfl q1362 q129 q1361 qs49 q1359 (Nat.le_of_ble_eq_true rfl) (Nat.le_of_ble_eq_true rfl) (Nat.le_of_ble_eq_true rfl) dX1_stopsBy_41 (st2 := [iV v48, iV v45]) rfl) ?_
          clear he49
          refine flp2 (go_icmp_lt (pc := 44) (Y := YX1_stopsBy) 50 dX1_stopsBy_44 (by decide)) ?_ ?_
          · refine im (go_aload_n (pc := 50) (Y := YX1_stopsBy) 0 dX1_stopsBy_50 rfl rfl) ?_
            refine kdg (fun k50 => ?_)
            refine bdg (fun s51 v52 he53 => ?_)
            refine im (go_callV (pc := 51) (Y := YX1_stopsBy) (Yc := YX1_tries) (y := yX1_tries) (n := 0) (c0 := 0) (q := (RX1, TX1, 25)) this [] [] rfl rfl k50 (mX1_tries s4 he53) YOK_X1_tries rfl q1345 q129 q1344 qs46 q1342 (Nat.le_of_ble_eq_true rfl) (Nat.le_of_ble_eq_true rfl) (Nat.le_of_ble_eq_true rfl) dX1_stopsBy_51 (st2 := [rV v52]) rfl) ?_
            clear he53
            refine im (go_pop (pc := 54) (Y := YX1_stopsBy) dX1_stopsBy_54 rfl) ?_
            refine im (go_iconst (pc := 55) (Y := YX1_stopsBy) (v := 0) dX1_stopsBy_55 rfl) ?_
            refine im (go_istore (pc := 56) (Y := YX1_stopsBy) (ls2 := [(5, iV 0), (0, rV (some this)), (1, iV i1), (2, iV i2), (3, iV v5), (4, iV v6)]) dX1_stopsBy_56 (Nat.le_of_ble_eq_true rfl) rfl) ?_
            refine bpg (fun s54 he60 h61 => ?_)
            refine go_sub [1, 2, 3, 4, 5, 0] rfl (sX1_stopsBy_L58_go this i1 i2 v5 v6 FU _ _ _ he60 ?_)
            clear he60
            revert h61
            refine im (go_aload_n (pc := 105) (Y := YX1_stopsBy) 0 dX1_stopsBy_105 rfl rfl) ?_
            refine im (go_aload_n (pc := 106) (Y := YX1_stopsBy) 0 dX1_stopsBy_106 rfl rfl) ?_
            refine flp (go_gR (pc := 107) (Y := YX1_stopsBy) fF1003 (by decide) q203 (Or.inl rfl) dX1_stopsBy_107) (fun v55 => ?_)
            refine im (go_iload_n (pc := 110) (Y := YX1_stopsBy) 1 dX1_stopsBy_110 rfl rfl) ?_
            refine kdg (fun k56 => ?_)
            refine bdg (fun s57 v58 he59 => ?_)
            refine im (go_callV (pc := 111) (Y := YX1_stopsBy) (Yc := YX1_brawlsOn) (y := yX1_brawlsOn) (n := 2) (c0 := 0) (q := (RX1, TX1, 25)) this [rV v55, iV i1] [] rfl rfl k56 (mX1_brawlsOn s54 he59) YOK_X1_brawlsOn rfl q1266 q129 q1265 qs42 q1263 (Nat.le_of_ble_eq_true rfl) (Nat.le_of_ble_eq_true rfl) (Nat.le_of_ble_eq_true rfl) dX1_stopsBy_111 (st2 := [iV v58]) rfl) ?_
            clear he59
            refine flp2 (go_if_ne (pc := 114) (Y := YX1_stopsBy) 120 dX1_stopsBy_114 (by decide)) ?_ ?_
            · refine im (go_iload (pc := 117) (Y := YX1_stopsBy) 4 dX1_stopsBy_117 rfl) ?_
              refine im (go_istore_n (pc := 119) (Y := YX1_stopsBy) (ls2 := [(3, iV v6), (0, rV (some this)), (1, iV i1), (2, iV i2), (4, iV v6)]) dX1_stopsBy_119 rfl (Nat.le_of_ble_eq_true rfl) rfl) ?_
              refine e2 (fun q0 q1 => ?_)
              subst q0
              subst q1
              exact go_sub [1, 2, 3, 0, 4] rfl hj120
            · refine e2 (fun q0 q1 => ?_)
              subst q0
              subst q1
              exact go_sub [0, 1, 2, 3, 4] rfl hj120
          · refine im (go_goto (pc := 47) (Y := YX1_stopsBy) 120 dX1_stopsBy_47 (by decide)) ?_
            refine e2 (fun q0 q1 => ?_)
            subst q0
            subst q1
            exact go_sub [0, 1, 2, 3, 4] rfl hj120
      · refine e2 (fun q0 q1 => ?_)
        subst q0
        subst q1
        exact go_sub [0, 1, 2, 3, 4] rfl hj120
theorem mX1_stopsBy {G : gG} (s0 : St) {this : Nat} {p0 : Int32} {sE : St} {vE : Int32} (h : sX1_stopsBy s0 this p0 = some (sE, vE)) : Mt G YX1_stopsBy yX1_stopsBy [rV (some this), iV p0] s0 (some (iV vE)) sE := by
  refine go_start (ls0 := [(0, rV (some this)), (1, iV p0)]) (by decide +kernel) rfl (fun h => by cases h) (Nat.le_of_ble_eq_true rfl) rfl ?_
  revert h
  unfold sX1_stopsBy
  refine im (go_aload_n (pc := 0) (Y := YX1_stopsBy) 0 dX1_stopsBy_0 rfl rfl) ?_
  refine im (go_iload_n (pc := 1) (Y := YX1_stopsBy) 1 dX1_stopsBy_1 rfl rfl) ?_
  refine kdg (fun k1 => ?_)
  refine bpg (fun v2 he3 => ?_)
  refine im (go_callV (pc := 2) (Y := YX1_stopsBy) (Yc := YX1_free) (y := yX1_free) (n := 1) (c0 := 0) (q := (RX1, TX1, 25)) this [iV p0] [] rfl rfl k1 (mX1_free s0 he3) YOK_X1_free rfl q1358 q129 q1357 qs48 q1355 (Nat.le_of_ble_eq_true rfl) (Nat.le_of_ble_eq_true rfl) (Nat.le_of_ble_eq_true rfl) dX1_stopsBy_2 (st2 := [iV v2]) rfl) ?_
  clear he3
  refine im (go_istore_n (pc := 5) (Y := YX1_stopsBy) (ls2 := [(2, iV v2), (0, rV (some this)), (1, iV p0)]) dX1_stopsBy_5 rfl (Nat.le_of_ble_eq_true rfl) rfl) ?_
  refine im (go_bipush (pc := 6) (Y := YX1_stopsBy) (v := -2) dX1_stopsBy_6 rfl) ?_
  refine im (go_istore_n (pc := 8) (Y := YX1_stopsBy) (ls2 := [(3, iV (-2)), (2, iV v2), (0, rV (some this)), (1, iV p0)]) dX1_stopsBy_8 rfl (Nat.le_of_ble_eq_true rfl) rfl) ?_
  refine im (go_iconst (pc := 9) (Y := YX1_stopsBy) (v := 0) dX1_stopsBy_9 rfl) ?_
  refine im (go_istore (pc := 10) (Y := YX1_stopsBy) (ls2 := [(4, iV 0), (3, iV (-2)), (2, iV v2), (0, rV (some this)), (1, iV p0)]) dX1_stopsBy_10 (Nat.le_of_ble_eq_true rfl) rfl) ?_
  refine b2g (fun s64 v65 he66 h67 => ?_)
  refine go_sub [3, 4, 2, 1, 0] rfl (sX1_stopsBy_L12_go this p0 v2 FU _ _ _ _ _ he66 ?_)
  clear he66
  revert h67
  refine im (go_iload_n (pc := 126) (Y := YX1_stopsBy) 0 dX1_stopsBy_126 rfl rfl) ?_
  refine e2 (fun q0 q1 => ?_)
  subst q0
  subst q1
  exact go_iret (pc := 127) (Y := YX1_stopsBy) rfl dX1_stopsBy_127
abbrev YX1_stoppers : mY := (RX1, cX1_stoppers, 2, (Option.some .int), 9, 208, false)
theorem YOK_X1_stoppers : YOK yX1_stoppers 1 := ⟨⟨by decide +kernel, by decide +kernel⟩, by decide +kernel⟩
theorem mX1_stoppers {G : gG} (s0 : St) {this : Nat} {p0 : Int32} {sE : St} {vE : Int32} (h : sX1_stoppers s0 this p0 = some (sE, vE)) : Mt G YX1_stoppers yX1_stoppers [rV (some this), iV p0] s0 (some (iV vE)) sE := by
  refine go_start (ls0 := [(0, rV (some this)), (1, iV p0)]) (by decide +kernel) rfl (fun h => by cases h) (Nat.le_of_ble_eq_true rfl) rfl ?_
  revert h
  unfold sX1_stoppers
  refine im (go_aload_n (pc := 0) (Y := YX1_stoppers) 0 dX1_stoppers_0 rfl rfl) ?_
  refine im (go_iload_n (pc := 1) (Y := YX1_stoppers) 1 dX1_stoppers_1 rfl rfl) ?_
  refine kdg (fun k1 => ?_)
  refine bpg (fun v2 he3 => ?_)
  refine im (go_callV (pc := 2) (Y := YX1_stoppers) (Yc := YX1_isQuarrel) (y := yX1_isQuarrel) (n := 1) (c0 := 0) (q := (RX1, TX1, 25)) this [iV p0] [] rfl rfl k1 (mX1_isQuarrel s0 he3) YOK_X1_isQuarrel rfl q1184 q129 q1183 qs36 q1181 (Nat.le_of_ble_eq_true rfl) (Nat.le_of_ble_eq_true rfl) (Nat.le_of_ble_eq_true rfl) dX1_stoppers_2 (st2 := [iV v2]) rfl) ?_
  clear he3
  refine flp2 (go_if_eq (pc := 5) (Y := YX1_stoppers) 20 dX1_stoppers_5 (by decide)) ?_ ?_
  · refine im (go_aload_n (pc := 20) (Y := YX1_stoppers) 0 dX1_stoppers_20 rfl rfl) ?_
    refine im (go_iconst (pc := 21) (Y := YX1_stoppers) (v := 1) dX1_stoppers_21 rfl) ?_
    refine kdg (fun k4 => ?_)
    refine bdg (fun s5 v6 he7 => ?_)
    refine im (go_callV (pc := 22) (Y := YX1_stoppers) (Yc := YX1_refused) (y := yX1_refused) (n := 1) (c0 := 0) (q := (RX1, TX1, 25)) this [iV 1] [] rfl rfl k4 (mX1_refused s0 he7) YOK_X1_refused rfl q288 q129 q287 qs0 q285 (Nat.le_of_ble_eq_true rfl) (Nat.le_of_ble_eq_true rfl) (Nat.le_of_ble_eq_true rfl) dX1_stoppers_22 (st2 := [iV v6]) rfl) ?_
    clear he7
    refine e2 (fun q0 q1 => ?_)
    subst q0
    subst q1
    exact go_iret (pc := 25) (Y := YX1_stoppers) rfl dX1_stoppers_25
  · refine im (go_aload_n (pc := 8) (Y := YX1_stoppers) 0 dX1_stoppers_8 rfl rfl) ?_
    refine im (go_aload_n (pc := 9) (Y := YX1_stoppers) 0 dX1_stoppers_9 rfl rfl) ?_
    refine im (go_iload_n (pc := 10) (Y := YX1_stoppers) 1 dX1_stoppers_10 rfl rfl) ?_
    refine kdg (fun k8 => ?_)
    refine bdg (fun s9 v10 he11 => ?_)
    refine im (go_callV (pc := 11) (Y := YX1_stoppers) (Yc := YX1_stopsBy) (y := yX1_stopsBy) (n := 1) (c0 := 0) (q := (RX1, TX1, 25)) this [iV p0] [rV (some this)] rfl rfl k8 (mX1_stopsBy s0 he11) YOK_X1_stopsBy rfl q1354 q129 q1353 qs47 q1351 (Nat.le_of_ble_eq_true rfl) (Nat.le_of_ble_eq_true rfl) (Nat.le_of_ble_eq_true rfl) dX1_stoppers_11 (st2 := [iV v10, rV (some this)]) rfl) ?_
    clear he11
    refine kdg (fun k12 => ?_)
    refine bdg (fun s13 v14 he15 => ?_)
    refine im (go_callV (pc := 14) (Y := YX1_stoppers) (Yc := YX1_well) (y := yX1_well) (n := 1) (c0 := 0) (q := (RX1, TX1, 25)) this [iV v10] [] rfl rfl k12 (mX1_well s9 he15) YOK_X1_well rfl q1102 q129 q1101 qs29 q1099 (Nat.le_of_ble_eq_true rfl) (Nat.le_of_ble_eq_true rfl) (Nat.le_of_ble_eq_true rfl) dX1_stoppers_14 (st2 := [iV v14]) rfl) ?_
    clear he15
    refine im (go_goto (pc := 17) (Y := YX1_stoppers) 25 dX1_stoppers_17 (by decide)) ?_
    refine e2 (fun q0 q1 => ?_)
    subst q0
    subst q1
    exact go_iret (pc := 25) (Y := YX1_stoppers) rfl dX1_stoppers_25
abbrev YX1_price : mY := (RX1, cX1_price, 3, (Option.some .int), 9, 208, false)
theorem YOK_X1_price : YOK yX1_price 1 := ⟨⟨by decide +kernel, by decide +kernel⟩, by decide +kernel⟩
theorem mX1_price {G : gG} (s0 : St) {this : Nat} {p0 : Int32} {sE : St} {vE : Int32} (h : sX1_price s0 this p0 = some (sE, vE)) : Mt G YX1_price yX1_price [rV (some this), iV p0] s0 (some (iV vE)) sE := by
  refine go_start (ls0 := [(0, rV (some this)), (1, iV p0)]) (by decide +kernel) rfl (fun h => by cases h) (Nat.le_of_ble_eq_true rfl) rfl ?_
  revert h
  unfold sX1_price
  refine im (go_aload_n (pc := 0) (Y := YX1_price) 0 dX1_price_0 rfl rfl) ?_
  refine im (go_iload_n (pc := 1) (Y := YX1_price) 1 dX1_price_1 rfl rfl) ?_
  refine kdg (fun k1 => ?_)
  refine bpg (fun v2 he3 => ?_)
  refine im (go_callV (pc := 2) (Y := YX1_price) (Yc := YX1_isQuarrel) (y := yX1_isQuarrel) (n := 1) (c0 := 0) (q := (RX1, TX1, 25)) this [iV p0] [] rfl rfl k1 (mX1_isQuarrel s0 he3) YOK_X1_isQuarrel rfl q1184 q129 q1183 qs36 q1181 (Nat.le_of_ble_eq_true rfl) (Nat.le_of_ble_eq_true rfl) (Nat.le_of_ble_eq_true rfl) dX1_price_2 (st2 := [iV v2]) rfl) ?_
  clear he3
  refine flp2 (go_if_ne (pc := 5) (Y := YX1_price) 14 dX1_price_5 (by decide)) ?_ ?_
  · refine im (go_aload_n (pc := 8) (Y := YX1_price) 0 dX1_price_8 rfl rfl) ?_
    refine im (go_iconst (pc := 9) (Y := YX1_price) (v := 1) dX1_price_9 rfl) ?_
    refine kdg (fun k4 => ?_)
    refine bdg (fun s5 v6 he7 => ?_)
    refine im (go_callV (pc := 10) (Y := YX1_price) (Yc := YX1_refused) (y := yX1_refused) (n := 1) (c0 := 0) (q := (RX1, TX1, 25)) this [iV 1] [] rfl rfl k4 (mX1_refused s0 he7) YOK_X1_refused rfl q288 q129 q287 qs0 q285 (Nat.le_of_ble_eq_true rfl) (Nat.le_of_ble_eq_true rfl) (Nat.le_of_ble_eq_true rfl) dX1_price_10 (st2 := [iV v6]) rfl) ?_
    clear he7
    refine e2 (fun q0 q1 => ?_)
    subst q0
    subst q1
    exact go_iret (pc := 13) (Y := YX1_price) rfl dX1_price_13
  · refine im (go_aload_n (pc := 14) (Y := YX1_price) 0 dX1_price_14 rfl rfl) ?_
    refine im (go_iload_n (pc := 15) (Y := YX1_price) 1 dX1_price_15 rfl rfl) ?_
    refine kdg (fun k8 => ?_)
    refine bdg (fun s9 v10 he11 => ?_)
    refine im (go_callV (pc := 16) (Y := YX1_price) (Yc := YX1_stopsBy) (y := yX1_stopsBy) (n := 1) (c0 := 0) (q := (RX1, TX1, 25)) this [iV p0] [] rfl rfl k8 (mX1_stopsBy s0 he11) YOK_X1_stopsBy rfl q1354 q129 q1353 qs47 q1351 (Nat.le_of_ble_eq_true rfl) (Nat.le_of_ble_eq_true rfl) (Nat.le_of_ble_eq_true rfl) dX1_price_16 (st2 := [iV v10]) rfl) ?_
    clear he11
    refine im (go_istore_n (pc := 19) (Y := YX1_price) (ls2 := [(2, iV v10), (0, rV (some this)), (1, iV p0)]) dX1_price_19 rfl (Nat.le_of_ble_eq_true rfl) rfl) ?_
    refine im (go_aload_n (pc := 20) (Y := YX1_price) 1 dX1_price_20 rfl rfl) ?_
    refine im (go_iload_n (pc := 21) (Y := YX1_price) 0 dX1_price_21 rfl rfl) ?_
    refine im (go_bipush (pc := 22) (Y := YX1_price) (v := -2) dX1_price_22 rfl) ?_
    refine flp2 (go_icmp_ne (pc := 24) (Y := YX1_price) 32 dX1_price_24 (by decide)) ?_ ?_
    · refine im (go_bipush (pc := 27) (Y := YX1_price) (v := -2) dX1_price_27 rfl) ?_
      refine im (go_goto (pc := 29) (Y := YX1_price) 37 dX1_price_29 (by decide)) ?_
      refine kdg (fun k12 => ?_)
      refine bdg (fun s13 v14 he15 => ?_)
      refine im (go_callV (pc := 37) (Y := YX1_price) (Yc := YX1_well) (y := yX1_well) (n := 1) (c0 := 0) (q := (RX1, TX1, 25)) this [iV (-2)] [] rfl rfl k12 (mX1_well s9 he15) YOK_X1_well rfl q1102 q129 q1101 qs29 q1099 (Nat.le_of_ble_eq_true rfl) (Nat.le_of_ble_eq_true rfl) (Nat.le_of_ble_eq_true rfl) dX1_price_37 (st2 := [iV v14]) rfl) ?_
      clear he15
      refine e2 (fun q0 q1 => ?_)
      subst q0
      subst q1
      exact go_iret (pc := 40) (Y := YX1_price) rfl dX1_price_40
    · refine im (go_aload_n (pc := 32) (Y := YX1_price) 1 dX1_price_32 rfl rfl) ?_
      refine im (go_iload_n (pc := 33) (Y := YX1_price) 0 dX1_price_33 rfl rfl) ?_
      refine kdg (fun k16 => ?_)
      refine bpg (fun v17 he18 => ?_)
      refine im (go_callV (pc := 34) (Y := YX1_price) (Yc := YX1_priceOf) (y := yX1_priceOf) (n := 1) (c0 := 0) (q := (RX1, TX1, 25)) this [iV v10] [rV (some this)] rfl rfl k16 (mX1_priceOf s9 he18) YOK_X1_priceOf rfl q1362 q129 q1361 qs49 q1359 (Nat.le_of_ble_eq_true rfl) (Nat.le_of_ble_eq_true rfl) (Nat.le_of_ble_eq_true rfl) dX1_price_34 (st2 := [iV v17, rV (some this)]) rfl) ?_
      clear he18
      refine kdg (fun k19 => ?_)
      refine bdg (fun s20 v21 he22 => ?_)
      refine im (go_callV (pc := 37) (Y := YX1_price) (Yc := YX1_well) (y := yX1_well) (n := 1) (c0 := 0) (q := (RX1, TX1, 25)) this [iV v17] [] rfl rfl k19 (mX1_well s9 he22) YOK_X1_well rfl q1102 q129 q1101 qs29 q1099 (Nat.le_of_ble_eq_true rfl) (Nat.le_of_ble_eq_true rfl) (Nat.le_of_ble_eq_true rfl) dX1_price_37 (st2 := [iV v21]) rfl) ?_
      clear he22
      refine e2 (fun q0 q1 => ?_)
      subst q0
      subst q1
      exact go_iret (pc := 40) (Y := YX1_price) rfl dX1_price_40
abbrev YX1_stoppedWith : mY := (RX1, cX1_stoppedWith, 3, (Option.some .int), 9, 206, false)
theorem YOK_X1_stoppedWith : YOK yX1_stoppedWith 2 := ⟨⟨by decide +kernel, by decide +kernel⟩, by decide +kernel⟩
theorem mX1_stoppedWith {G : gG} (s0 : St) {this : Nat} {p0 : Int32} {p1 : Int32} {sE : St} {vE : Int32} (h : sX1_stoppedWith s0 this p0 p1 = some (sE, vE)) : Mt G YX1_stoppedWith yX1_stoppedWith [rV (some this), iV p0, iV p1] s0 (some (iV vE)) sE := by
  refine go_start (ls0 := [(0, rV (some this)), (1, iV p0), (2, iV p1)]) (by decide +kernel) rfl (fun h => by cases h) (Nat.le_of_ble_eq_true rfl) rfl ?_
  revert h
  unfold sX1_stoppedWith
  refine im (go_aload_n (pc := 0) (Y := YX1_stoppedWith) 0 dX1_stoppedWith_0 rfl rfl) ?_
  refine kdg (fun k1 => ?_)
  refine bdg (fun s2 v3 he4 => ?_)
  refine im (go_callV (pc := 1) (Y := YX1_stoppedWith) (Yc := YX1_tries) (y := yX1_tries) (n := 0) (c0 := 0) (q := (RX1, TX1, 25)) this [] [] rfl rfl k1 (mX1_tries s0 he4) YOK_X1_tries rfl q1345 q129 q1344 qs46 q1342 (Nat.le_of_ble_eq_true rfl) (Nat.le_of_ble_eq_true rfl) (Nat.le_of_ble_eq_true rfl) dX1_stoppedWith_1 (st2 := [rV v3]) rfl) ?_
  clear he4
  refine flp (go_gR (pc := 4) (Y := YX1_stoppedWith) fF1036 (by decide) q1061 (Or.inl rfl) dX1_stoppedWith_4) (fun v5 => ?_)
  refine im (go_iload_n (pc := 7) (Y := YX1_stoppedWith) 1 dX1_stoppedWith_7 rfl rfl) ?_
  refine im (go_iload_n (pc := 8) (Y := YX1_stoppedWith) 2 dX1_stoppedWith_8 rfl rfl) ?_
  refine im (go_i2b (pc := 9) (Y := YX1_stoppedWith) dX1_stoppedWith_9) ?_
  refine flp (go_tB (pc := 10) (Y := YX1_stoppedWith) dX1_stoppedWith_10) (fun s6 => ?_)
  refine im (go_aload_n (pc := 11) (Y := YX1_stoppedWith) 0 dX1_stoppedWith_11 rfl rfl) ?_
  refine im (go_aload_n (pc := 12) (Y := YX1_stoppedWith) 0 dX1_stoppedWith_12 rfl rfl) ?_
  refine flp (go_gR (pc := 13) (Y := YX1_stoppedWith) fF1003 (by decide) q203 (Or.inl rfl) dX1_stoppedWith_13) (fun v7 => ?_)
  refine kdg (fun k8 => ?_)
  refine bdg (fun s9 v10 he11 => ?_)
  refine im (go_callV (pc := 16) (Y := YX1_stoppedWith) (Yc := YX1_stoppedOn) (y := yX1_stoppedOn) (n := 1) (c0 := 0) (q := (RX1, TX1, 25)) this [rV v7] [] rfl rfl k8 (mX1_stoppedOn s6 he11) YOK_X1_stoppedOn rfl q1311 q129 q1310 qs45 q1308 (Nat.le_of_ble_eq_true rfl) (Nat.le_of_ble_eq_true rfl) (Nat.le_of_ble_eq_true rfl) dX1_stoppedWith_16 (st2 := [iV v10]) rfl) ?_
  clear he11
  refine e2 (fun q0 q1 => ?_)
  subst q0
  subst q1
  exact go_iret (pc := 19) (Y := YX1_stoppedWith) rfl dX1_stoppedWith_19
abbrev YX1_stoppedIf : mY := (RX1, cX1_stoppedIf, 3, (Option.some .int), 10, 228, false)
theorem YOK_X1_stoppedIf : YOK yX1_stoppedIf 2 := ⟨⟨by decide +kernel, by decide +kernel⟩, by decide +kernel⟩
theorem mX1_stoppedIf {G : gG} (s0 : St) {this : Nat} {p0 : Int32} {p1 : Int32} {sE : St} {vE : Int32} (h : sX1_stoppedIf s0 this p0 p1 = some (sE, vE)) : Mt G YX1_stoppedIf yX1_stoppedIf [rV (some this), iV p0, iV p1] s0 (some (iV vE)) sE := by
  refine go_start (ls0 := [(0, rV (some this)), (1, iV p0), (2, iV p1)]) (by decide +kernel) rfl (fun h => by cases h) (Nat.le_of_ble_eq_true rfl) rfl ?_
  revert h
  unfold sX1_stoppedIf
  refine im (go_aload_n (pc := 0) (Y := YX1_stoppedIf) 0 dX1_stoppedIf_0 rfl rfl) ?_
  refine im (go_iload_n (pc := 1) (Y := YX1_stoppedIf) 1 dX1_stoppedIf_1 rfl rfl) ?_
  refine kdg (fun k1 => ?_)
  refine bpg (fun v2 he3 => ?_)
  refine im (go_callV (pc := 2) (Y := YX1_stoppedIf) (Yc := YX1_isPerson) (y := yX1_isPerson) (n := 1) (c0 := 0) (q := (RX1, TX1, 25)) this [iV p0] [] rfl rfl k1 (mX1_isPerson s0 he3) YOK_X1_isPerson rfl q1118 q129 q1117 qs30 q1115 (Nat.le_of_ble_eq_true rfl) (Nat.le_of_ble_eq_true rfl) (Nat.le_of_ble_eq_true rfl) dX1_stoppedIf_2 (st2 := [iV v2]) rfl) ?_
  clear he3
  refine flp2 (go_if_eq (pc := 5) (Y := YX1_stoppedIf) 16 dX1_stoppedIf_5 (by decide)) ?_ ?_
  · refine im (go_aload_n (pc := 16) (Y := YX1_stoppedIf) 0 dX1_stoppedIf_16 rfl rfl) ?_
    refine im (go_iconst (pc := 17) (Y := YX1_stoppedIf) (v := 1) dX1_stoppedIf_17 rfl) ?_
    refine kdg (fun k4 => ?_)
    refine bdg (fun s5 v6 he7 => ?_)
    refine im (go_callV (pc := 18) (Y := YX1_stoppedIf) (Yc := YX1_refused) (y := yX1_refused) (n := 1) (c0 := 0) (q := (RX1, TX1, 25)) this [iV 1] [] rfl rfl k4 (mX1_refused s0 he7) YOK_X1_refused rfl q288 q129 q287 qs0 q285 (Nat.le_of_ble_eq_true rfl) (Nat.le_of_ble_eq_true rfl) (Nat.le_of_ble_eq_true rfl) dX1_stoppedIf_18 (st2 := [iV v6]) rfl) ?_
    clear he7
    refine e2 (fun q0 q1 => ?_)
    subst q0
    subst q1
    exact go_iret (pc := 21) (Y := YX1_stoppedIf) rfl dX1_stoppedIf_21
  · refine im (go_aload_n (pc := 8) (Y := YX1_stoppedIf) 0 dX1_stoppedIf_8 rfl rfl) ?_
    refine im (go_iload_n (pc := 9) (Y := YX1_stoppedIf) 2 dX1_stoppedIf_9 rfl rfl) ?_
    refine kdg (fun k8 => ?_)
    refine bpg (fun v9 he10 => ?_)
    refine im (go_callV (pc := 10) (Y := YX1_stoppedIf) (Yc := YX1_isPlace) (y := yX1_isPlace) (n := 1) (c0 := 0) (q := (RX1, TX1, 25)) this [iV p1] [] rfl rfl k8 (mX1_isPlace s0 he10) YOK_X1_isPlace rfl q1213 q129 q1212 qs38 q1210 (Nat.le_of_ble_eq_true rfl) (Nat.le_of_ble_eq_true rfl) (Nat.le_of_ble_eq_true rfl) dX1_stoppedIf_10 (st2 := [iV v9]) rfl) ?_
    clear he10
    refine flp2 (go_if_ne (pc := 13) (Y := YX1_stoppedIf) 22 dX1_stoppedIf_13 (by decide)) ?_ ?_
    · refine im (go_aload_n (pc := 16) (Y := YX1_stoppedIf) 0 dX1_stoppedIf_16 rfl rfl) ?_
      refine im (go_iconst (pc := 17) (Y := YX1_stoppedIf) (v := 1) dX1_stoppedIf_17 rfl) ?_
      refine kdg (fun k11 => ?_)
      refine bdg (fun s12 v13 he14 => ?_)
      refine im (go_callV (pc := 18) (Y := YX1_stoppedIf) (Yc := YX1_refused) (y := yX1_refused) (n := 1) (c0 := 0) (q := (RX1, TX1, 25)) this [iV 1] [] rfl rfl k11 (mX1_refused s0 he14) YOK_X1_refused rfl q288 q129 q287 qs0 q285 (Nat.le_of_ble_eq_true rfl) (Nat.le_of_ble_eq_true rfl) (Nat.le_of_ble_eq_true rfl) dX1_stoppedIf_18 (st2 := [iV v13]) rfl) ?_
      clear he14
      refine e2 (fun q0 q1 => ?_)
      subst q0
      subst q1
      exact go_iret (pc := 21) (Y := YX1_stoppedIf) rfl dX1_stoppedIf_21
    · refine im (go_aload_n (pc := 22) (Y := YX1_stoppedIf) 0 dX1_stoppedIf_22 rfl rfl) ?_
      refine flp (go_gR (pc := 23) (Y := YX1_stoppedIf) fF1001 (by decide) q201 (Or.inl rfl) dX1_stoppedIf_23) (fun v15 => ?_)
      refine im (go_iload_n (pc := 26) (Y := YX1_stoppedIf) 1 dX1_stoppedIf_26 rfl rfl) ?_
      refine ivg (fun w16 r17 k18 => ?_)
      refine bpg (fun v19 he20 => ?_)
      refine im (go_callV (pc := 27) (Y := YX1_stoppedIf) (Yc := YX5_person) (y := yX5_person) (n := 1) (c0 := 5) (q := (RX5, TX5, 10)) w16 [iV p0] [] (by rw [r17]; rfl) rfl k18 (mX5_person s0 he20) YOK_X5_person rfl q986 q136 q984 q985 q1123 (Nat.le_of_ble_eq_true rfl) (Nat.le_of_ble_eq_true rfl) (Nat.le_of_ble_eq_true rfl) dX1_stoppedIf_27 (st2 := [rV v19]) rfl) ?_
      clear he20
      refine flp (go_gI (pc := 30) (Y := YX1_stoppedIf) fF69 (by decide) q909 (Or.inl rfl) dX1_stoppedIf_30) (fun v21 => ?_)
      refine im (go_bipush (pc := 33) (Y := YX1_stoppedIf) (v := -2) dX1_stoppedIf_33 rfl) ?_
      refine flp2 (go_icmp_ne (pc := 35) (Y := YX1_stoppedIf) 46 dX1_stoppedIf_35 (by decide)) ?_ ?_
      · refine im (go_aload_n (pc := 38) (Y := YX1_stoppedIf) 0 dX1_stoppedIf_38 rfl rfl) ?_
        refine im (go_iconst (pc := 39) (Y := YX1_stoppedIf) (v := 5) dX1_stoppedIf_39 rfl) ?_
        refine kdg (fun k22 => ?_)
        refine bdg (fun s23 v24 he25 => ?_)
        refine im (go_callV (pc := 40) (Y := YX1_stoppedIf) (Yc := YX1_refused) (y := yX1_refused) (n := 1) (c0 := 0) (q := (RX1, TX1, 25)) this [iV 5] [] rfl rfl k22 (mX1_refused s0 he25) YOK_X1_refused rfl q288 q129 q287 qs0 q285 (Nat.le_of_ble_eq_true rfl) (Nat.le_of_ble_eq_true rfl) (Nat.le_of_ble_eq_true rfl) dX1_stoppedIf_40 (st2 := [iV v24]) rfl) ?_
        clear he25
        refine im (go_goto (pc := 43) (Y := YX1_stoppedIf) 56 dX1_stoppedIf_43 (by decide)) ?_
        refine e2 (fun q0 q1 => ?_)
        subst q0
        subst q1
        exact go_iret (pc := 56) (Y := YX1_stoppedIf) rfl dX1_stoppedIf_56
      · refine im (go_aload_n (pc := 46) (Y := YX1_stoppedIf) 0 dX1_stoppedIf_46 rfl rfl) ?_
        refine im (go_aload_n (pc := 47) (Y := YX1_stoppedIf) 0 dX1_stoppedIf_47 rfl rfl) ?_
        refine im (go_iload_n (pc := 48) (Y := YX1_stoppedIf) 1 dX1_stoppedIf_48 rfl rfl) ?_
        refine im (go_iload_n (pc := 49) (Y := YX1_stoppedIf) 2 dX1_stoppedIf_49 rfl rfl) ?_
        refine kdg (fun k26 => ?_)
        refine bdg (fun s27 v28 he29 => ?_)
        refine im (go_callV (pc := 50) (Y := YX1_stoppedIf) (Yc := YX1_stoppedWith) (y := yX1_stoppedWith) (n := 2) (c0 := 0) (q := (RX1, TX1, 25)) this [iV p0, iV p1] [rV (some this)] rfl rfl k26 (mX1_stoppedWith s0 he29) YOK_X1_stoppedWith rfl q1374 q129 q1373 qs50 q1371 (Nat.le_of_ble_eq_true rfl) (Nat.le_of_ble_eq_true rfl) (Nat.le_of_ble_eq_true rfl) dX1_stoppedIf_50 (st2 := [iV v28, rV (some this)]) rfl) ?_
        clear he29
        refine kdg (fun k30 => ?_)
        refine bdg (fun s31 v32 he33 => ?_)
        refine im (go_callV (pc := 53) (Y := YX1_stoppedIf) (Yc := YX1_well) (y := yX1_well) (n := 1) (c0 := 0) (q := (RX1, TX1, 25)) this [iV v28] [] rfl rfl k30 (mX1_well s27 he33) YOK_X1_well rfl q1102 q129 q1101 qs29 q1099 (Nat.le_of_ble_eq_true rfl) (Nat.le_of_ble_eq_true rfl) (Nat.le_of_ble_eq_true rfl) dX1_stoppedIf_53 (st2 := [iV v32]) rfl) ?_
        clear he33
        refine e2 (fun q0 q1 => ?_)
        subst q0
        subst q1
        exact go_iret (pc := 56) (Y := YX1_stoppedIf) rfl dX1_stoppedIf_56
abbrev YX1_bestHire : mY := (RX1, cX1_bestHire, 6, (Option.some .int), 10, 228, false)
theorem YOK_X1_bestHire : YOK yX1_bestHire 0 := ⟨⟨by decide +kernel, by decide +kernel⟩, by decide +kernel⟩
theorem sX1_bestHire_L41_go {G : gG} {s0 sE : St} {rE : Option V3} (this : Nat) (i3 : Int32) : ∀ (n : Nat) (s22 : St) (v23 : Int32) (v24 : Int32) (v25 : Int32) (s26 : St) (v27 : Int32) (v28 : Int32), sX1_bestHire_L41 this i3 n s22 v23 v24 v25 = some (s26, v27, v28) → Go G YX1_bestHire s0 sE rE 104 [(0, rV (some this)), (1, iV v27), (2, iV v28), (3, iV i3)] [] s26 → Go G YX1_bestHire s0 sE rE 41 [(0, rV (some this)), (1, iV v23), (2, iV v24), (3, iV i3), (4, iV v25)] [] s22 := by
  intro n
  induction n with
  | zero => intro s22 v23 v24 v25 s26 v27 v28 h hx; rw [sX1_bestHire_L41] at h; cases h
  | succ n ih =>
    intro s22 v23 v24 v25 s26 v27 v28 h hx
    revert h
    rw [sX1_bestHire_L41]
    refine im (go_iload (pc := 41) (Y := YX1_bestHire) 4 dX1_bestHire_41 rfl) ?_
    refine im (go_aload_n (pc := 43) (Y := YX1_bestHire) 0 dX1_bestHire_43 rfl rfl) ?_
    refine kdg (fun k29 => ?_)
    refine bpg (fun v30 he31 => ?_)
    refine im (go_callV (pc := 44) (Y := YX1_bestHire) (Yc := YX1_places) (y := yX1_places) (n := 0) (c0 := 0) (q := (RX1, TX1, 25)) this [] [iV v25] rfl rfl k29 (mX1_places s22 he31) YOK_X1_places rfl q1097 q129 q1096 qs28 q1094 (Nat.le_of_ble_eq_true rfl) (Nat.le_of_ble_eq_true rfl) (Nat.le_of_ble_eq_true rfl) dX1_bestHire_44 (st2 := [iV v30, iV v25]) rfl) ?_
    clear he31
    refine flp2 (go_icmp_ge (pc := 47) (Y := YX1_bestHire) 104 dX1_bestHire_47 (by decide)) ?_ ?_
    · refine e3 (fun q0 q1 q2 => ?_)
      subst q0
      subst q1
      subst q2
      exact go_sub [0, 1, 2, 3] rfl hx
    · refine im (go_aload_n (pc := 50) (Y := YX1_bestHire) 0 dX1_bestHire_50 rfl rfl) ?_
      refine flp (go_gR (pc := 51) (Y := YX1_bestHire) fF1001 (by decide) q201 (Or.inl rfl) dX1_bestHire_51) (fun v32 => ?_)
      refine im (go_iload_n (pc := 54) (Y := YX1_bestHire) 3 dX1_bestHire_54 rfl rfl) ?_
      refine ivg (fun w33 r34 k35 => ?_)
      refine bpg (fun v36 he37 => ?_)
      refine im (go_callV (pc := 55) (Y := YX1_bestHire) (Yc := YX5_person) (y := yX5_person) (n := 1) (c0 := 5) (q := (RX5, TX5, 10)) w33 [iV i3] [] (by rw [r34]; rfl) rfl k35 (mX5_person s22 he37) YOK_X5_person rfl q986 q136 q984 q985 q1123 (Nat.le_of_ble_eq_true rfl) (Nat.le_of_ble_eq_true rfl) (Nat.le_of_ble_eq_true rfl) dX1_bestHire_55 (st2 := [rV v36]) rfl) ?_
      clear he37
      refine flp (go_gI (pc := 58) (Y := YX1_bestHire) fF69 (by decide) q909 (Or.inl rfl) dX1_bestHire_58) (fun v38 => ?_)
      refine im (go_bipush (pc := 61) (Y := YX1_bestHire) (v := -2) dX1_bestHire_61 rfl) ?_
      refine flp2 (go_icmp_eq (pc := 63) (Y := YX1_bestHire) 104 dX1_bestHire_63 (by decide)) ?_ ?_
      · refine e3 (fun q0 q1 q2 => ?_)
        subst q0
        subst q1
        subst q2
        exact go_sub [0, 1, 2, 3] rfl hx
      · refine im (go_aload_n (pc := 66) (Y := YX1_bestHire) 0 dX1_bestHire_66 rfl rfl) ?_
        refine im (go_iload_n (pc := 67) (Y := YX1_bestHire) 3 dX1_bestHire_67 rfl rfl) ?_
        refine im (go_iload (pc := 68) (Y := YX1_bestHire) 4 dX1_bestHire_68 rfl) ?_
        refine kdg (fun k39 => ?_)
        refine bdg (fun s40 v41 he42 => ?_)
        refine im (go_callV (pc := 70) (Y := YX1_bestHire) (Yc := YX1_stoppedWith) (y := yX1_stoppedWith) (n := 2) (c0 := 0) (q := (RX1, TX1, 25)) this [iV i3, iV v25] [] rfl rfl k39 (mX1_stoppedWith s22 he42) YOK_X1_stoppedWith rfl q1374 q129 q1373 qs50 q1371 (Nat.le_of_ble_eq_true rfl) (Nat.le_of_ble_eq_true rfl) (Nat.le_of_ble_eq_true rfl) dX1_bestHire_70 (st2 := [iV v41]) rfl) ?_
        clear he42
        refine bpg (fun v43 he44 => ?_)
        refine im (go_callS (pc := 73) (Y := YX1_bestHire) (Yc := YX1_bits) (y := yX1_bits) (n := 1) [iV v41] [] rfl (mX1_bits s40 he44) YOK_X1_bits rfl q1314 q129 q1313 q1312 (Nat.le_of_ble_eq_true rfl) (Nat.le_of_ble_eq_true rfl) (Nat.le_of_ble_eq_true rfl) dX1_bestHire_73 (st2 := [iV v43]) rfl) ?_
        clear he44
        refine im (go_istore (pc := 76) (Y := YX1_bestHire) (ls2 := [(5, iV v43), (0, rV (some this)), (1, iV v23), (2, iV v24), (3, iV i3), (4, iV v25)]) dX1_bestHire_76 (Nat.le_of_ble_eq_true rfl) rfl) ?_
        refine im (go_iload (pc := 78) (Y := YX1_bestHire) 0 dX1_bestHire_78 rfl) ?_
        refine im (go_iload_n (pc := 80) (Y := YX1_bestHire) 2 dX1_bestHire_80 rfl rfl) ?_
        refine b2g (fun v45 v46 he47 h48 => ?_)
        have hj98 : Go G YX1_bestHire s0 sE rE 98 [(0, rV (some this)), (1, iV v45), (2, iV v46), (3, iV i3), (4, iV v25)] [] s40 := by
          clear he47
          revert h48
          refine im (go_iinc (pc := 98) (Y := YX1_bestHire) 4 (v := (v25 + 1)) (ls2 := [(4, iV (v25 + 1)), (0, rV (some this)), (1, iV v45), (2, iV v46), (3, iV i3)]) dX1_bestHire_98 rfl rfl (Nat.le_of_ble_eq_true rfl) rfl) ?_
          refine im (go_goto (pc := 101) (Y := YX1_bestHire) 41 dX1_bestHire_101 (by decide)) ?_
          exact fun hq => go_sub [1, 2, 3, 4, 0] rfl (ih _ _ _ _ _ _ _ hq hx)
        clear h48
        revert he47
        refine flp2 (go_icmp_gt (pc := 81) (Y := YX1_bestHire) 87 dX1_bestHire_81 (by decide)) ?_ ?_
        · refine im (go_iload (pc := 87) (Y := YX1_bestHire) 0 dX1_bestHire_87 rfl) ?_
          refine im (go_istore_n (pc := 89) (Y := YX1_bestHire) (ls2 := [(1, iV v43), (5, iV v43), (0, rV (some this)), (2, iV v24), (3, iV i3), (4, iV v25)]) dX1_bestHire_89 rfl (Nat.le_of_ble_eq_true rfl) rfl) ?_
          refine im (go_bipush (pc := 90) (Y := YX1_bestHire) (v := 10) dX1_bestHire_90 rfl) ?_
          refine im (go_iload_n (pc := 92) (Y := YX1_bestHire) 4 dX1_bestHire_92 rfl rfl) ?_
          refine im (go_imul (pc := 93) (Y := YX1_bestHire) dX1_bestHire_93) ?_
          refine im (go_iload (pc := 94) (Y := YX1_bestHire) 5 dX1_bestHire_94 rfl) ?_
          refine im (go_iadd (pc := 96) (Y := YX1_bestHire) dX1_bestHire_96) ?_
          refine im (go_istore_n (pc := 97) (Y := YX1_bestHire) (ls2 := [(2, iV ((10 * i3) + v25)), (1, iV v43), (5, iV v43), (0, rV (some this)), (3, iV i3), (4, iV v25)]) dX1_bestHire_97 rfl (Nat.le_of_ble_eq_true rfl) rfl) ?_
          refine e2 (fun q0 q1 => ?_)
          subst q0
          subst q1
          exact go_sub [3, 1, 0, 4, 5] rfl hj98
        · refine im (go_goto (pc := 84) (Y := YX1_bestHire) 98 dX1_bestHire_84 (by decide)) ?_
          refine e2 (fun q0 q1 => ?_)
          subst q0
          subst q1
          exact go_sub [1, 2, 3, 4, 5] rfl hj98
theorem sX1_bestHire_L30_go {G : gG} {s0 sE : St} {rE : Option V3} (this : Nat) : ∀ (n : Nat) (s13 : St) (v14 : Int32) (v15 : Int32) (v16 : Int32) (s17 : St) (v18 : Int32), sX1_bestHire_L30 this n s13 v14 v15 v16 = some (s17, v18) → Go G YX1_bestHire s0 sE rE 110 [(0, rV (some this)), (2, iV v18)] [] s17 → Go G YX1_bestHire s0 sE rE 30 [(0, rV (some this)), (1, iV v14), (2, iV v15), (3, iV v16)] [] s13 := by
  intro n
  induction n with
  | zero => intro s13 v14 v15 v16 s17 v18 h hx; rw [sX1_bestHire_L30] at h; cases h
  | succ n ih =>
    intro s13 v14 v15 v16 s17 v18 h hx
    revert h
    rw [sX1_bestHire_L30]
    refine im (go_iload_n (pc := 30) (Y := YX1_bestHire) 3 dX1_bestHire_30 rfl rfl) ?_
    refine im (go_aload_n (pc := 31) (Y := YX1_bestHire) 0 dX1_bestHire_31 rfl rfl) ?_
    refine kdg (fun k19 => ?_)
    refine bpg (fun v20 he21 => ?_)
    refine im (go_callV (pc := 32) (Y := YX1_bestHire) (Yc := YX1_people) (y := yX1_people) (n := 0) (c0 := 0) (q := (RX1, TX1, 25)) this [] [iV v16] rfl rfl k19 (mX1_people s13 he21) YOK_X1_people rfl q1122 q129 q1121 qs31 q1119 (Nat.le_of_ble_eq_true rfl) (Nat.le_of_ble_eq_true rfl) (Nat.le_of_ble_eq_true rfl) dX1_bestHire_32 (st2 := [iV v20, iV v16]) rfl) ?_
    clear he21
    refine flp2 (go_icmp_ge (pc := 35) (Y := YX1_bestHire) 110 dX1_bestHire_35 (by decide)) ?_ ?_
    · refine e2 (fun q0 q1 => ?_)
      subst q0
      subst q1
      exact go_sub [0, 2] rfl hx
    · refine im (go_iconst (pc := 38) (Y := YX1_bestHire) (v := 0) dX1_bestHire_38 rfl) ?_
      refine im (go_istore (pc := 39) (Y := YX1_bestHire) (ls2 := [(4, iV 0), (0, rV (some this)), (1, iV v14), (2, iV v15), (3, iV v16)]) dX1_bestHire_39 (Nat.le_of_ble_eq_true rfl) rfl) ?_
      refine b3g (fun s49 v50 v51 he52 h53 => ?_)
      refine go_sub [1, 2, 3, 4, 0] rfl (sX1_bestHire_L41_go this v16 FU _ _ _ _ _ _ _ he52 ?_)
      clear he52
      revert h53
      refine im (go_iinc (pc := 104) (Y := YX1_bestHire) 3 (v := (v16 + 1)) (ls2 := [(3, iV (v16 + 1)), (0, rV (some this)), (1, iV v50), (2, iV v51)]) dX1_bestHire_104 rfl rfl (Nat.le_of_ble_eq_true rfl) rfl) ?_
      refine im (go_goto (pc := 107) (Y := YX1_bestHire) 30 dX1_bestHire_107 (by decide)) ?_
      exact fun hq => go_sub [1, 2, 3, 0] rfl (ih _ _ _ _ _ _ hq hx)
theorem mX1_bestHire {G : gG} (s0 : St) {this : Nat} {sE : St} {vE : Int32} (h : sX1_bestHire s0 this = some (sE, vE)) : Mt G YX1_bestHire yX1_bestHire [rV (some this)] s0 (some (iV vE)) sE := by
  refine go_start (ls0 := [(0, rV (some this))]) (by decide +kernel) rfl (fun h => by cases h) (Nat.le_of_ble_eq_true rfl) rfl ?_
  revert h
  unfold sX1_bestHire
  refine im (go_aload_n (pc := 0) (Y := YX1_bestHire) 0 dX1_bestHire_0 rfl rfl) ?_
  refine flp (go_gR (pc := 1) (Y := YX1_bestHire) fF1001 (by decide) q201 (Or.inl rfl) dX1_bestHire_1) (fun v1 => ?_)
  refine flp2 (go_ifnonnull (pc := 4) (Y := YX1_bestHire) 13 dX1_bestHire_4 (by decide)) ?_ ?_
  · refine im (go_aload_n (pc := 7) (Y := YX1_bestHire) 0 dX1_bestHire_7 rfl rfl) ?_
    refine im (go_iconst (pc := 8) (Y := YX1_bestHire) (v := 1) dX1_bestHire_8 rfl) ?_
    refine kdg (fun k2 => ?_)
    refine bdg (fun s3 v4 he5 => ?_)
    refine im (go_callV (pc := 9) (Y := YX1_bestHire) (Yc := YX1_refused) (y := yX1_refused) (n := 1) (c0 := 0) (q := (RX1, TX1, 25)) this [iV 1] [] rfl rfl k2 (mX1_refused s0 he5) YOK_X1_refused rfl q288 q129 q287 qs0 q285 (Nat.le_of_ble_eq_true rfl) (Nat.le_of_ble_eq_true rfl) (Nat.le_of_ble_eq_true rfl) dX1_bestHire_9 (st2 := [iV v4]) rfl) ?_
    clear he5
    refine e2 (fun q0 q1 => ?_)
    subst q0
    subst q1
    exact go_iret (pc := 12) (Y := YX1_bestHire) rfl dX1_bestHire_12
  · refine im (go_aload_n (pc := 13) (Y := YX1_bestHire) 0 dX1_bestHire_13 rfl rfl) ?_
    refine im (go_aload_n (pc := 14) (Y := YX1_bestHire) 0 dX1_bestHire_14 rfl rfl) ?_
    refine flp (go_gR (pc := 15) (Y := YX1_bestHire) fF1002 (by decide) q202 (Or.inl rfl) dX1_bestHire_15) (fun v6 => ?_)
    refine kdg (fun k7 => ?_)
    refine bdg (fun s8 v9 he10 => ?_)
    refine im (go_callV (pc := 18) (Y := YX1_bestHire) (Yc := YX1_stoppedOn) (y := yX1_stoppedOn) (n := 1) (c0 := 0) (q := (RX1, TX1, 25)) this [rV v6] [] rfl rfl k7 (mX1_stoppedOn s0 he10) YOK_X1_stoppedOn rfl q1311 q129 q1310 qs45 q1308 (Nat.le_of_ble_eq_true rfl) (Nat.le_of_ble_eq_true rfl) (Nat.le_of_ble_eq_true rfl) dX1_bestHire_18 (st2 := [iV v9]) rfl) ?_
    clear he10
    refine bpg (fun v11 he12 => ?_)
    refine im (go_callS (pc := 21) (Y := YX1_bestHire) (Yc := YX1_bits) (y := yX1_bits) (n := 1) [iV v9] [] rfl (mX1_bits s8 he12) YOK_X1_bits rfl q1314 q129 q1313 q1312 (Nat.le_of_ble_eq_true rfl) (Nat.le_of_ble_eq_true rfl) (Nat.le_of_ble_eq_true rfl) dX1_bestHire_21 (st2 := [iV v11]) rfl) ?_
    clear he12
    refine im (go_istore_n (pc := 24) (Y := YX1_bestHire) (ls2 := [(1, iV v11), (0, rV (some this))]) dX1_bestHire_24 rfl (Nat.le_of_ble_eq_true rfl) rfl) ?_
    refine im (go_bipush (pc := 25) (Y := YX1_bestHire) (v := -2) dX1_bestHire_25 rfl) ?_
    refine im (go_istore_n (pc := 27) (Y := YX1_bestHire) (ls2 := [(2, iV (-2)), (1, iV v11), (0, rV (some this))]) dX1_bestHire_27 rfl (Nat.le_of_ble_eq_true rfl) rfl) ?_
    refine im (go_iconst (pc := 28) (Y := YX1_bestHire) (v := 0) dX1_bestHire_28 rfl) ?_
    refine im (go_istore_n (pc := 29) (Y := YX1_bestHire) (ls2 := [(3, iV 0), (2, iV (-2)), (1, iV v11), (0, rV (some this))]) dX1_bestHire_29 rfl (Nat.le_of_ble_eq_true rfl) rfl) ?_
    refine b2g (fun s54 v55 he60 h61 => ?_)
    refine go_sub [3, 2, 1, 0] rfl (sX1_bestHire_L30_go this FU _ _ _ _ _ _ he60 ?_)
    clear he60
    revert h61
    refine im (go_aload_n (pc := 110) (Y := YX1_bestHire) 0 dX1_bestHire_110 rfl rfl) ?_
    refine im (go_iload_n (pc := 111) (Y := YX1_bestHire) 1 dX1_bestHire_111 rfl rfl) ?_
    refine kdg (fun k56 => ?_)
    refine bdg (fun s57 v58 he59 => ?_)
    refine im (go_callV (pc := 112) (Y := YX1_bestHire) (Yc := YX1_well) (y := yX1_well) (n := 1) (c0 := 0) (q := (RX1, TX1, 25)) this [iV v55] [] rfl rfl k56 (mX1_well s54 he59) YOK_X1_well rfl q1102 q129 q1101 qs29 q1099 (Nat.le_of_ble_eq_true rfl) (Nat.le_of_ble_eq_true rfl) (Nat.le_of_ble_eq_true rfl) dX1_bestHire_112 (st2 := [iV v58]) rfl) ?_
    clear he59
    refine e2 (fun q0 q1 => ?_)
    subst q0
    subst q1
    exact go_iret (pc := 115) (Y := YX1_bestHire) rfl dX1_bestHire_115
abbrev YX1_wrongEnd : mY := (RX1, cX1_wrongEnd, 4, (Option.some .int), 8, 183, false)
theorem YOK_X1_wrongEnd : YOK yX1_wrongEnd 1 := ⟨⟨by decide +kernel, by decide +kernel⟩, by decide +kernel⟩
theorem sX1_wrongEnd_L22_go {G : gG} {s0 sE : St} {rE : Option V3} (this : Nat) : ∀ (n : Nat) (s11 : St) (v12 : Int32) (v13 : Int32) (s14 : St) (v15 : Int32), sX1_wrongEnd_L22 this n s11 v12 v13 = some (s14, v15) → Go G YX1_wrongEnd s0 sE rE 80 [(0, rV (some this)), (2, iV v15)] [] s14 → Go G YX1_wrongEnd s0 sE rE 22 [(0, rV (some this)), (2, iV v12), (3, iV v13)] [] s11 := by
  intro n
  induction n with
  | zero => intro s11 v12 v13 s14 v15 h hx; rw [sX1_wrongEnd_L22] at h; cases h
  | succ n ih =>
    intro s11 v12 v13 s14 v15 h hx
    revert h
    rw [sX1_wrongEnd_L22]
    refine im (go_iload_n (pc := 22) (Y := YX1_wrongEnd) 2 dX1_wrongEnd_22 rfl rfl) ?_
    refine flp2 (go_if_lt (pc := 23) (Y := YX1_wrongEnd) 80 dX1_wrongEnd_23 (by decide)) ?_ ?_
    · refine e2 (fun q0 q1 => ?_)
      subst q0
      subst q1
      exact go_sub [0, 1] rfl hx
    · refine im (go_aload_n (pc := 26) (Y := YX1_wrongEnd) 0 dX1_wrongEnd_26 rfl rfl) ?_
      refine flp (go_gR (pc := 27) (Y := YX1_wrongEnd) fF1001 (by decide) q201 (Or.inl rfl) dX1_wrongEnd_27) (fun v16 => ?_)
      refine im (go_iload_n (pc := 30) (Y := YX1_wrongEnd) 2 dX1_wrongEnd_30 rfl rfl) ?_
      refine ivg (fun w17 r18 k19 => ?_)
      refine bpg (fun v20 he21 => ?_)
      refine im (go_callV (pc := 31) (Y := YX1_wrongEnd) (Yc := YX5_quarrel) (y := yX5_quarrel) (n := 1) (c0 := 5) (q := (RX5, TX5, 10)) w17 [iV v13] [] (by rw [r18]; rfl) rfl k19 (mX5_quarrel s11 he21) YOK_X5_quarrel rfl q1043 q136 q1041 q1042 q1159 (Nat.le_of_ble_eq_true rfl) (Nat.le_of_ble_eq_true rfl) (Nat.le_of_ble_eq_true rfl) dX1_wrongEnd_31 (st2 := [rV v20]) rfl) ?_
      clear he21
      refine flp (go_gI (pc := 34) (Y := YX1_wrongEnd) fF76 (by decide) q1010 (Or.inl rfl) dX1_wrongEnd_34) (fun v22 => ?_)
      refine im (go_iconst (pc := 37) (Y := YX1_wrongEnd) (v := -1) dX1_wrongEnd_37 rfl) ?_
      refine b2g (fun s23 v24 he38 h39 => ?_)
      have hj74 : Go G YX1_wrongEnd s0 sE rE 74 [(0, rV (some this)), (2, iV v24), (3, iV v13)] [] s23 := by
        clear he38
        revert h39
        refine im (go_iinc (pc := 74) (Y := YX1_wrongEnd) 2 (v := (v13 + (-1))) (ls2 := [(3, iV (v13 + (-1))), (0, rV (some this)), (2, iV v24)]) dX1_wrongEnd_74 rfl rfl (Nat.le_of_ble_eq_true rfl) rfl) ?_
        refine im (go_goto (pc := 77) (Y := YX1_wrongEnd) 22 dX1_wrongEnd_77 (by decide)) ?_
        exact fun hq => go_sub [1, 2, 0] rfl (ih _ _ _ _ _ hq hx)
      clear h39
      revert he38
      refine flp2 (go_icmp_ne (pc := 38) (Y := YX1_wrongEnd) 44 dX1_wrongEnd_38 (by decide)) ?_ ?_
      · refine im (go_goto (pc := 41) (Y := YX1_wrongEnd) 74 dX1_wrongEnd_41 (by decide)) ?_
        refine e2 (fun q0 q1 => ?_)
        subst q0
        subst q1
        exact go_sub [0, 1, 2] rfl hj74
      · refine im (go_aload_n (pc := 44) (Y := YX1_wrongEnd) 0 dX1_wrongEnd_44 rfl rfl) ?_
        refine im (go_aload_n (pc := 45) (Y := YX1_wrongEnd) 0 dX1_wrongEnd_45 rfl rfl) ?_
        refine flp (go_gR (pc := 46) (Y := YX1_wrongEnd) fF1003 (by decide) q203 (Or.inl rfl) dX1_wrongEnd_46) (fun v25 => ?_)
        refine im (go_iload_n (pc := 49) (Y := YX1_wrongEnd) 2 dX1_wrongEnd_49 rfl rfl) ?_
        refine kdg (fun k26 => ?_)
        refine bdg (fun s27 v28 he29 => ?_)
        refine im (go_callV (pc := 50) (Y := YX1_wrongEnd) (Yc := YX1_brawlsOn) (y := yX1_brawlsOn) (n := 2) (c0 := 0) (q := (RX1, TX1, 25)) this [rV v25, iV v13] [] rfl rfl k26 (mX1_brawlsOn s11 he29) YOK_X1_brawlsOn rfl q1266 q129 q1265 qs42 q1263 (Nat.le_of_ble_eq_true rfl) (Nat.le_of_ble_eq_true rfl) (Nat.le_of_ble_eq_true rfl) dX1_wrongEnd_50 (st2 := [iV v28]) rfl) ?_
        clear he29
        refine im (go_pop (pc := 53) (Y := YX1_wrongEnd) dX1_wrongEnd_53 rfl) ?_
        refine im (go_aload_n (pc := 54) (Y := YX1_wrongEnd) 0 dX1_wrongEnd_54 rfl rfl) ?_
        refine flp (go_gI (pc := 55) (Y := YX1_wrongEnd) fF7 (by decide) q209 (Or.inl rfl) dX1_wrongEnd_55) (fun v30 => ?_)
        refine im (go_aload_n (pc := 58) (Y := YX1_wrongEnd) 0 dX1_wrongEnd_58 rfl rfl) ?_
        refine flp (go_gR (pc := 59) (Y := YX1_wrongEnd) fF1001 (by decide) q201 (Or.inl rfl) dX1_wrongEnd_59) (fun v31 => ?_)
        refine im (go_iload_n (pc := 62) (Y := YX1_wrongEnd) 2 dX1_wrongEnd_62 rfl rfl) ?_
        refine ivg (fun w32 r33 k34 => ?_)
        refine bpg (fun v35 he36 => ?_)
        refine im (go_callV (pc := 63) (Y := YX1_wrongEnd) (Yc := YX5_quarrel) (y := yX5_quarrel) (n := 1) (c0 := 5) (q := (RX5, TX5, 10)) w32 [iV v13] [iV v30] (by rw [r33]; rfl) rfl k34 (mX5_quarrel s27 he36) YOK_X5_quarrel rfl q1043 q136 q1041 q1042 q1159 (Nat.le_of_ble_eq_true rfl) (Nat.le_of_ble_eq_true rfl) (Nat.le_of_ble_eq_true rfl) dX1_wrongEnd_63 (st2 := [rV v35, iV v30]) rfl) ?_
        clear he36
        refine flp (go_gI (pc := 66) (Y := YX1_wrongEnd) fF76 (by decide) q1010 (Or.inl rfl) dX1_wrongEnd_66) (fun v37 => ?_)
        refine flp2 (go_icmp_eq (pc := 69) (Y := YX1_wrongEnd) 74 dX1_wrongEnd_69 (by decide)) ?_ ?_
        · refine e2 (fun q0 q1 => ?_)
          subst q0
          subst q1
          exact go_sub [0, 1, 2] rfl hj74
        · refine im (go_iload_n (pc := 72) (Y := YX1_wrongEnd) 2 dX1_wrongEnd_72 rfl rfl) ?_
          refine im (go_istore_n (pc := 73) (Y := YX1_wrongEnd) (ls2 := [(2, iV v13), (0, rV (some this)), (3, iV v13)]) dX1_wrongEnd_73 rfl (Nat.le_of_ble_eq_true rfl) rfl) ?_
          refine e2 (fun q0 q1 => ?_)
          subst q0
          subst q1
          exact go_sub [1, 0, 2] rfl hj74
theorem mX1_wrongEnd {G : gG} (s0 : St) {this : Nat} {p0 : Int32} {sE : St} {vE : Int32} (h : sX1_wrongEnd s0 this p0 = some (sE, vE)) : Mt G YX1_wrongEnd yX1_wrongEnd [rV (some this), iV p0] s0 (some (iV vE)) sE := by
  refine go_start (ls0 := [(0, rV (some this)), (1, iV p0)]) (by decide +kernel) rfl (fun h => by cases h) (Nat.le_of_ble_eq_true rfl) rfl ?_
  revert h
  unfold sX1_wrongEnd
  refine im (go_aload_n (pc := 0) (Y := YX1_wrongEnd) 0 dX1_wrongEnd_0 rfl rfl) ?_
  refine flp (go_gR (pc := 1) (Y := YX1_wrongEnd) fF1003 (by decide) q203 (Or.inl rfl) dX1_wrongEnd_1) (fun v1 => ?_)
  refine ivg (fun w2 r3 k4 => ?_)
  refine bpg (fun s5 he6 => ?_)
  refine im (go_callV (pc := 4) (Y := YX1_wrongEnd) (Yc := YX14_begins) (y := yX14_begins) (n := 0) (c0 := 16) (q := (RX14, TX14, 4)) w2 [] [] (by rw [r3]; rfl) rfl k4 (mX14_begins s0 he6) YOK_X14_begins rfl q1078 q156 q1076 q1077 q1075 (Nat.le_of_ble_eq_true rfl) (Nat.le_of_ble_eq_true rfl) (Nat.le_of_ble_eq_true rfl) dX1_wrongEnd_4 (st2 := []) rfl) ?_
  clear he6
  refine im (go_aload_n (pc := 7) (Y := YX1_wrongEnd) 0 dX1_wrongEnd_7 rfl rfl) ?_
  refine im (go_iload_n (pc := 8) (Y := YX1_wrongEnd) 1 dX1_wrongEnd_8 rfl rfl) ?_
  refine flp (go_pI (pc := 9) (Y := YX1_wrongEnd) fF5 (by decide) q207 (Or.inl rfl) (Or.inl rfl) rfl rfl rfl dX1_wrongEnd_9) (fun s7 => ?_)
  refine im (go_bipush (pc := 12) (Y := YX1_wrongEnd) (v := -2) dX1_wrongEnd_12 rfl) ?_
  refine im (go_istore_n (pc := 14) (Y := YX1_wrongEnd) (ls2 := [(2, iV (-2)), (0, rV (some this)), (1, iV p0)]) dX1_wrongEnd_14 rfl (Nat.le_of_ble_eq_true rfl) rfl) ?_
  refine im (go_aload_n (pc := 15) (Y := YX1_wrongEnd) 1 dX1_wrongEnd_15 rfl rfl) ?_
  refine kdg (fun k8 => ?_)
  refine bpg (fun v9 he10 => ?_)
  refine im (go_callV (pc := 16) (Y := YX1_wrongEnd) (Yc := YX1_quarrels) (y := yX1_quarrels) (n := 0) (c0 := 0) (q := (RX1, TX1, 25)) this [] [] rfl rfl k8 (mX1_quarrels s7 he10) YOK_X1_quarrels rfl q1158 q129 q1157 qs33 q1155 (Nat.le_of_ble_eq_true rfl) (Nat.le_of_ble_eq_true rfl) (Nat.le_of_ble_eq_true rfl) dX1_wrongEnd_16 (st2 := [iV v9]) rfl) ?_
  clear he10
  refine im (go_iconst (pc := 19) (Y := YX1_wrongEnd) (v := 1) dX1_wrongEnd_19 rfl) ?_
  refine im (go_isub (pc := 20) (Y := YX1_wrongEnd) dX1_wrongEnd_20) ?_
  refine im (go_istore_n (pc := 21) (Y := YX1_wrongEnd) (ls2 := [(3, iV (v9 - 1)), (2, iV (-2)), (0, rV (some this)), (1, iV p0)]) dX1_wrongEnd_21 rfl (Nat.le_of_ble_eq_true rfl) rfl) ?_
  refine b2g (fun s40 v41 he43 h44 => ?_)
  refine go_sub [2, 1, 0] rfl (sX1_wrongEnd_L22_go this FU _ _ _ _ _ he43 ?_)
  clear he43
  revert h44
  refine im (go_aload_n (pc := 80) (Y := YX1_wrongEnd) 0 dX1_wrongEnd_80 rfl rfl) ?_
  refine im (go_iconst (pc := 81) (Y := YX1_wrongEnd) (v := 0) dX1_wrongEnd_81 rfl) ?_
  refine flp (go_pI (pc := 82) (Y := YX1_wrongEnd) fF5 (by decide) q207 (Or.inl rfl) (Or.inl rfl) rfl rfl rfl dX1_wrongEnd_82) (fun s42 => ?_)
  refine im (go_iload_n (pc := 85) (Y := YX1_wrongEnd) 1 dX1_wrongEnd_85 rfl rfl) ?_
  refine e2 (fun q0 q1 => ?_)
  subst q0
  subst q1
  exact go_iret (pc := 86) (Y := YX1_wrongEnd) rfl dX1_wrongEnd_86
abbrev YX1_fitting : mY := (RX1, cX1_fitting, 5, (Option.some .int), 9, 206, false)
theorem YOK_X1_fitting : YOK yX1_fitting 1 := ⟨⟨by decide +kernel, by decide +kernel⟩, by decide +kernel⟩
theorem sX1_fitting_L30_go {G : gG} {s0 sE : St} {rE : Option V3} (this : Nat) (i1 : Int32) (i2 : Int32) : ∀ (n : Nat) (s6 : St) (v7 : Int32) (s8 : St), sX1_fitting_L30 this n s6 v7 = some s8 → Go G YX1_fitting s0 sE rE 48 [(0, rV (some this)), (1, iV i1), (2, iV i2)] [] s8 → Go G YX1_fitting s0 sE rE 30 [(0, rV (some this)), (1, iV i1), (2, iV i2), (3, iV v7)] [] s6 := by
  intro n
  induction n with
  | zero => intro s6 v7 s8 h hx; rw [sX1_fitting_L30] at h; cases h
  | succ n ih =>
    intro s6 v7 s8 h hx
    revert h
    rw [sX1_fitting_L30]
    refine im (go_iload_n (pc := 30) (Y := YX1_fitting) 3 dX1_fitting_30 rfl rfl) ?_
    refine im (go_iconst (pc := 31) (Y := YX1_fitting) (v := 4) dX1_fitting_31 rfl) ?_
    refine flp2 (go_icmp_ge (pc := 32) (Y := YX1_fitting) 48 dX1_fitting_32 (by decide)) ?_ ?_
    · refine e1 (fun q0 => ?_)
      subst q0
      exact go_sub [0, 1, 2] rfl hx
    · refine im (go_aload_n (pc := 35) (Y := YX1_fitting) 0 dX1_fitting_35 rfl rfl) ?_
      refine flp (go_gR (pc := 36) (Y := YX1_fitting) fF1006 (by decide) q218 (Or.inl rfl) dX1_fitting_36) (fun v9 => ?_)
      refine im (go_iload_n (pc := 39) (Y := YX1_fitting) 3 dX1_fitting_39 rfl rfl) ?_
      refine im (go_iconst (pc := 40) (Y := YX1_fitting) (v := 0) dX1_fitting_40 rfl) ?_
      refine flp (go_tI (pc := 41) (Y := YX1_fitting) dX1_fitting_41) (fun s10 => ?_)
      refine im (go_iinc (pc := 42) (Y := YX1_fitting) 3 (v := (v7 + 1)) (ls2 := [(3, iV (v7 + 1)), (0, rV (some this)), (1, iV i1), (2, iV i2)]) dX1_fitting_42 rfl rfl (Nat.le_of_ble_eq_true rfl) rfl) ?_
      refine im (go_goto (pc := 45) (Y := YX1_fitting) 30 dX1_fitting_45 (by decide)) ?_
      exact fun hq => go_sub [1, 2, 3, 0] rfl (ih _ _ _ hq hx)
theorem sX1_fitting_L119_go {G : gG} {s0 sE : St} {rE : Option V3} (this : Nat) (i1 : Int32) (i2 : Int32) (i3 : Int32) : ∀ (n : Nat) (s33 : St) (v34 : Int32) (s35 : St), sX1_fitting_L119 this i3 n s33 v34 = some s35 → Go G YX1_fitting s0 sE rE 161 [(0, rV (some this)), (1, iV i1), (2, iV i2), (3, iV i3)] [] s35 → Go G YX1_fitting s0 sE rE 119 [(0, rV (some this)), (1, iV i1), (2, iV i2), (3, iV i3), (4, iV v34)] [] s33 := by
  intro n
  induction n with
  | zero => intro s33 v34 s35 h hx; rw [sX1_fitting_L119] at h; cases h
  | succ n ih =>
    intro s33 v34 s35 h hx
    revert h
    rw [sX1_fitting_L119]
    refine im (go_iload (pc := 119) (Y := YX1_fitting) 4 dX1_fitting_119 rfl) ?_
    refine im (go_aload_n (pc := 121) (Y := YX1_fitting) 0 dX1_fitting_121 rfl rfl) ?_
    refine flp (go_gR (pc := 122) (Y := YX1_fitting) fF1001 (by decide) q201 (Or.inl rfl) dX1_fitting_122) (fun v36 => ?_)
    refine flp (go_gI (pc := 125) (Y := YX1_fitting) fF52 (by decide) q327 (Or.inl rfl) dX1_fitting_125) (fun v37 => ?_)
    refine flp2 (go_icmp_ge (pc := 128) (Y := YX1_fitting) 161 dX1_fitting_128 (by decide)) ?_ ?_
    · refine e1 (fun q0 => ?_)
      subst q0
      exact go_sub [0, 1, 2, 3] rfl hx
    · refine im (go_aload_n (pc := 131) (Y := YX1_fitting) 0 dX1_fitting_131 rfl rfl) ?_
      refine flp (go_gR (pc := 132) (Y := YX1_fitting) fF1006 (by decide) q218 (Or.inl rfl) dX1_fitting_132) (fun v38 => ?_)
      refine im (go_iload (pc := 135) (Y := YX1_fitting) 4 dX1_fitting_135 rfl) ?_
      refine im (go_dup2 (pc := 137) (Y := YX1_fitting) dX1_fitting_137 rfl rfl) ?_
      refine flp (go_lI1 (pc := 138) (Y := YX1_fitting) dX1_fitting_138) (fun v39 => ?_)
      refine im (go_iload_n (pc := 139) (Y := YX1_fitting) 3 dX1_fitting_139 rfl rfl) ?_
      refine im (go_iload (pc := 140) (Y := YX1_fitting) 4 dX1_fitting_140 rfl) ?_
      refine bpg (fun v40 he41 => ?_)
      refine im (go_callS (pc := 142) (Y := YX1_fitting) (Yc := YX1_has) (y := yX1_has) (n := 2) [iV i3, iV v34] [iV v39, iV v34, rV v38] rfl (mX1_has s33 he41) YOK_X1_has rfl q1176 q129 q1175 q1174 (Nat.le_of_ble_eq_true rfl) (Nat.le_of_ble_eq_true rfl) (Nat.le_of_ble_eq_true rfl) dX1_fitting_142 (st2 := [iV v40, iV v39, iV v34, rV v38]) rfl) ?_
      clear he41
      refine bpg (fun v42 he44 h45 => ?_)
      have hj153 : Go G YX1_fitting s0 sE rE 153 [(0, rV (some this)), (1, iV i1), (2, iV i2), (3, iV i3), (4, iV v34)] [iV v42, iV v39, iV v34, rV v38] s33 := by
        clear he44
        revert h45
        refine im (go_iadd (pc := 153) (Y := YX1_fitting) dX1_fitting_153) ?_
        refine flp (go_tI (pc := 154) (Y := YX1_fitting) dX1_fitting_154) (fun s43 => ?_)
        refine im (go_iinc (pc := 155) (Y := YX1_fitting) 4 (v := (v34 + 1)) (ls2 := [(4, iV (v34 + 1)), (0, rV (some this)), (1, iV i1), (2, iV i2), (3, iV i3)]) dX1_fitting_155 rfl rfl (Nat.le_of_ble_eq_true rfl) rfl) ?_
        refine im (go_goto (pc := 158) (Y := YX1_fitting) 119 dX1_fitting_158 (by decide)) ?_
        exact fun hq => go_sub [1, 2, 3, 4, 0] rfl (ih _ _ _ hq hx)
      clear h45
      revert he44
      refine flp2 (go_if_eq (pc := 145) (Y := YX1_fitting) 152 dX1_fitting_145 (by decide)) ?_ ?_
      · refine im (go_iconst (pc := 152) (Y := YX1_fitting) (v := 0) dX1_fitting_152 rfl) ?_
        refine e1 (fun q0 => ?_)
        subst q0
        exact go_sub [0, 1, 2, 3, 4] rfl hj153
      · refine im (go_iconst (pc := 148) (Y := YX1_fitting) (v := 1) dX1_fitting_148 rfl) ?_
        refine im (go_goto (pc := 149) (Y := YX1_fitting) 153 dX1_fitting_149 (by decide)) ?_
        refine e1 (fun q0 => ?_)
        subst q0
        exact go_sub [0, 1, 2, 3, 4] rfl hj153
theorem sX1_fitting_L50_go {G : gG} {s0 sE : St} {rE : Option V3} (this : Nat) (i1 : Int32) : ∀ (n : Nat) (s12 : St) (v13 : Int32) (v14 : Int32) (s15 : St) (v16 : Int32), sX1_fitting_L50 this i1 n s12 v13 v14 = some (s15, v16) → Go G YX1_fitting s0 sE rE 167 [(0, rV (some this)), (2, iV v16)] [] s15 → Go G YX1_fitting s0 sE rE 50 [(0, rV (some this)), (1, iV i1), (2, iV v13), (3, iV v14)] [] s12 := by
  intro n
  induction n with
  | zero => intro s12 v13 v14 s15 v16 h hx; rw [sX1_fitting_L50] at h; cases h
  | succ n ih =>
    intro s12 v13 v14 s15 v16 h hx
    revert h
    rw [sX1_fitting_L50]
    refine im (go_iload_n (pc := 50) (Y := YX1_fitting) 3 dX1_fitting_50 rfl rfl) ?_
    refine im (go_iconst (pc := 51) (Y := YX1_fitting) (v := 1) dX1_fitting_51 rfl) ?_
    refine im (go_aload_n (pc := 52) (Y := YX1_fitting) 0 dX1_fitting_52 rfl rfl) ?_
    refine flp (go_gR (pc := 53) (Y := YX1_fitting) fF1001 (by decide) q201 (Or.inl rfl) dX1_fitting_53) (fun v17 => ?_)
    refine flp (go_gI (pc := 56) (Y := YX1_fitting) fF52 (by decide) q327 (Or.inl rfl) dX1_fitting_56) (fun v18 => ?_)
    refine im (go_ishl (pc := 59) (Y := YX1_fitting) dX1_fitting_59) ?_
    refine flp2 (go_icmp_ge (pc := 60) (Y := YX1_fitting) 167 dX1_fitting_60 (by decide)) ?_ ?_
    · refine e2 (fun q0 q1 => ?_)
      subst q0
      subst q1
      exact go_sub [0, 2] rfl hx
    · refine im (go_aload_n (pc := 63) (Y := YX1_fitting) 0 dX1_fitting_63 rfl rfl) ?_
      refine im (go_iload_n (pc := 64) (Y := YX1_fitting) 3 dX1_fitting_64 rfl rfl) ?_
      refine kdg (fun k19 => ?_)
      refine bdg (fun s20 v21 he22 => ?_)
      refine im (go_callV (pc := 65) (Y := YX1_fitting) (Yc := YX1_wrongEnd) (y := yX1_wrongEnd) (n := 1) (c0 := 0) (q := (RX1, TX1, 25)) this [iV v14] [] rfl rfl k19 (mX1_wrongEnd s12 he22) YOK_X1_wrongEnd rfl q1390 q129 q1389 qs52 q1387 (Nat.le_of_ble_eq_true rfl) (Nat.le_of_ble_eq_true rfl) (Nat.le_of_ble_eq_true rfl) dX1_fitting_65 (st2 := [iV v21]) rfl) ?_
      clear he22
      refine im (go_bipush (pc := 68) (Y := YX1_fitting) (v := -2) dX1_fitting_68 rfl) ?_
      refine b2g (fun s23 v24 he51 h52 => ?_)
      have hj161 : Go G YX1_fitting s0 sE rE 161 [(0, rV (some this)), (1, iV i1), (2, iV v24), (3, iV v14)] [] s23 := by
        clear he51
        revert h52
        refine im (go_iinc (pc := 161) (Y := YX1_fitting) 3 (v := (v14 + 1)) (ls2 := [(3, iV (v14 + 1)), (0, rV (some this)), (1, iV i1), (2, iV v24)]) dX1_fitting_161 rfl rfl (Nat.le_of_ble_eq_true rfl) rfl) ?_
        refine im (go_goto (pc := 164) (Y := YX1_fitting) 50 dX1_fitting_164 (by decide)) ?_
        exact fun hq => go_sub [1, 2, 3, 0] rfl (ih _ _ _ _ _ hq hx)
      clear h52
      revert he51
      refine flp2 (go_icmp_eq (pc := 70) (Y := YX1_fitting) 76 dX1_fitting_70 (by decide)) ?_ ?_
      · refine im (go_aload_n (pc := 76) (Y := YX1_fitting) 0 dX1_fitting_76 rfl rfl) ?_
        refine flp (go_gI (pc := 77) (Y := YX1_fitting) fF13 (by decide) q215 (Or.inl rfl) dX1_fitting_77) (fun v25 => ?_)
        refine im (go_iload_n (pc := 80) (Y := YX1_fitting) 1 dX1_fitting_80 rfl rfl) ?_
        refine bpg (fun v26 he49 h50 => ?_)
        have hj86 : Go G YX1_fitting s0 sE rE 86 [(0, rV (some this)), (1, iV i1), (2, iV v26), (3, iV v14)] [] s20 := by
          clear he49
          revert h50
          refine im (go_aload_n (pc := 86) (Y := YX1_fitting) 0 dX1_fitting_86 rfl rfl) ?_
          refine im (go_dup (pc := 87) (Y := YX1_fitting) dX1_fitting_87 rfl) ?_
          refine flp (go_gI (pc := 88) (Y := YX1_fitting) fF13 (by decide) q215 (Or.inl rfl) dX1_fitting_88) (fun v27 => ?_)
          refine im (go_iconst (pc := 91) (Y := YX1_fitting) (v := 1) dX1_fitting_91 rfl) ?_
          refine im (go_iadd (pc := 92) (Y := YX1_fitting) dX1_fitting_92) ?_
          refine flp (go_pI (pc := 93) (Y := YX1_fitting) fF13 (by decide) q215 (Or.inl rfl) (Or.inl rfl) rfl rfl rfl dX1_fitting_93) (fun s28 => ?_)
          refine im (go_aload_n (pc := 96) (Y := YX1_fitting) 0 dX1_fitting_96 rfl rfl) ?_
          refine im (go_dup (pc := 97) (Y := YX1_fitting) dX1_fitting_97 rfl) ?_
          refine flp (go_gI (pc := 98) (Y := YX1_fitting) fF14 (by decide) q216 (Or.inl rfl) dX1_fitting_98) (fun v29 => ?_)
          refine im (go_iload_n (pc := 101) (Y := YX1_fitting) 3 dX1_fitting_101 rfl rfl) ?_
          refine im (go_ior (pc := 102) (Y := YX1_fitting) dX1_fitting_102) ?_
          refine flp (go_pI (pc := 103) (Y := YX1_fitting) fF14 (by decide) q216 (Or.inl rfl) (Or.inl rfl) rfl rfl rfl dX1_fitting_103) (fun s30 => ?_)
          refine im (go_aload_n (pc := 106) (Y := YX1_fitting) 0 dX1_fitting_106 rfl rfl) ?_
          refine im (go_dup (pc := 107) (Y := YX1_fitting) dX1_fitting_107 rfl) ?_
          refine flp (go_gI (pc := 108) (Y := YX1_fitting) fF15 (by decide) q217 (Or.inl rfl) dX1_fitting_108) (fun v31 => ?_)
          refine im (go_iload_n (pc := 111) (Y := YX1_fitting) 3 dX1_fitting_111 rfl rfl) ?_
          refine im (go_iand (pc := 112) (Y := YX1_fitting) dX1_fitting_112) ?_
          refine flp (go_pI (pc := 113) (Y := YX1_fitting) fF15 (by decide) q217 (Or.inl rfl) (Or.inl rfl) rfl rfl rfl dX1_fitting_113) (fun s32 => ?_)
          refine im (go_iconst (pc := 116) (Y := YX1_fitting) (v := 0) dX1_fitting_116 rfl) ?_
          refine im (go_istore (pc := 117) (Y := YX1_fitting) (ls2 := [(4, iV 0), (0, rV (some this)), (1, iV i1), (2, iV v26), (3, iV v14)]) dX1_fitting_117 (Nat.le_of_ble_eq_true rfl) rfl) ?_
          refine bpg (fun s46 he47 h48 => ?_)
          refine go_sub [1, 2, 3, 4, 0] rfl (sX1_fitting_L119_go this i1 v26 v14 FU _ _ _ he47 ?_)
          clear he47
          revert h48
          refine e2 (fun q0 q1 => ?_)
          subst q0
          subst q1
          exact go_sub [0, 1, 2, 3] rfl hj161
        clear h50
        revert he49
        refine flp2 (go_icmp_ne (pc := 81) (Y := YX1_fitting) 86 dX1_fitting_81 (by decide)) ?_ ?_
        · refine im (go_iload_n (pc := 84) (Y := YX1_fitting) 3 dX1_fitting_84 rfl rfl) ?_
          refine im (go_istore_n (pc := 85) (Y := YX1_fitting) (ls2 := [(2, iV v14), (0, rV (some this)), (1, iV i1), (3, iV v14)]) dX1_fitting_85 rfl (Nat.le_of_ble_eq_true rfl) rfl) ?_
          refine e1 (fun q0 => ?_)
          subst q0
          exact go_sub [1, 2, 0, 3] rfl hj86
        · refine e1 (fun q0 => ?_)
          subst q0
          exact go_sub [0, 1, 2, 3] rfl hj86
      · refine im (go_goto (pc := 73) (Y := YX1_fitting) 161 dX1_fitting_73 (by decide)) ?_
        refine e2 (fun q0 q1 => ?_)
        subst q0
        subst q1
        exact go_sub [0, 1, 2, 3] rfl hj161
theorem mX1_fitting {G : gG} (s0 : St) {this : Nat} {p0 : Int32} {sE : St} {vE : Int32} (h : sX1_fitting s0 this p0 = some (sE, vE)) : Mt G YX1_fitting yX1_fitting [rV (some this), iV p0] s0 (some (iV vE)) sE := by
  refine go_start (ls0 := [(0, rV (some this)), (1, iV p0)]) (by decide +kernel) rfl (fun h => by cases h) (Nat.le_of_ble_eq_true rfl) rfl ?_
  revert h
  unfold sX1_fitting
  refine im (go_aload_n (pc := 0) (Y := YX1_fitting) 0 dX1_fitting_0 rfl rfl) ?_
  refine im (go_iconst (pc := 1) (Y := YX1_fitting) (v := 0) dX1_fitting_1 rfl) ?_
  refine flp (go_pI (pc := 2) (Y := YX1_fitting) fF13 (by decide) q215 (Or.inl rfl) (Or.inl rfl) rfl rfl rfl dX1_fitting_2) (fun s1 => ?_)
  refine im (go_aload_n (pc := 5) (Y := YX1_fitting) 0 dX1_fitting_5 rfl rfl) ?_
  refine im (go_iconst (pc := 6) (Y := YX1_fitting) (v := 0) dX1_fitting_6 rfl) ?_
  refine flp (go_pI (pc := 7) (Y := YX1_fitting) fF14 (by decide) q216 (Or.inl rfl) (Or.inl rfl) rfl rfl rfl dX1_fitting_7) (fun s2 => ?_)
  refine im (go_aload_n (pc := 10) (Y := YX1_fitting) 0 dX1_fitting_10 rfl rfl) ?_
  refine im (go_iconst (pc := 11) (Y := YX1_fitting) (v := 1) dX1_fitting_11 rfl) ?_
  refine im (go_aload_n (pc := 12) (Y := YX1_fitting) 0 dX1_fitting_12 rfl rfl) ?_
  refine flp (go_gR (pc := 13) (Y := YX1_fitting) fF1001 (by decide) q201 (Or.inl rfl) dX1_fitting_13) (fun v3 => ?_)
  refine flp (go_gI (pc := 16) (Y := YX1_fitting) fF52 (by decide) q327 (Or.inl rfl) dX1_fitting_16) (fun v4 => ?_)
  refine im (go_ishl (pc := 19) (Y := YX1_fitting) dX1_fitting_19) ?_
  refine im (go_iconst (pc := 20) (Y := YX1_fitting) (v := 1) dX1_fitting_20 rfl) ?_
  refine im (go_isub (pc := 21) (Y := YX1_fitting) dX1_fitting_21) ?_
  refine flp (go_pI (pc := 22) (Y := YX1_fitting) fF15 (by decide) q217 (Or.inl rfl) (Or.inl rfl) rfl rfl rfl dX1_fitting_22) (fun s5 => ?_)
  refine im (go_bipush (pc := 25) (Y := YX1_fitting) (v := -2) dX1_fitting_25 rfl) ?_
  refine im (go_istore_n (pc := 27) (Y := YX1_fitting) (ls2 := [(2, iV (-2)), (0, rV (some this)), (1, iV p0)]) dX1_fitting_27 rfl (Nat.le_of_ble_eq_true rfl) rfl) ?_
  refine im (go_iconst (pc := 28) (Y := YX1_fitting) (v := 0) dX1_fitting_28 rfl) ?_
  refine im (go_istore_n (pc := 29) (Y := YX1_fitting) (ls2 := [(3, iV 0), (2, iV (-2)), (0, rV (some this)), (1, iV p0)]) dX1_fitting_29 rfl (Nat.le_of_ble_eq_true rfl) rfl) ?_
  refine bpg (fun s11 he59 h60 => ?_)
  refine go_sub [2, 3, 1, 0] rfl (sX1_fitting_L30_go this p0 (-2) FU _ _ _ he59 ?_)
  clear he59
  revert h60
  refine im (go_iconst (pc := 48) (Y := YX1_fitting) (v := 0) dX1_fitting_48 rfl) ?_
  refine im (go_istore_n (pc := 49) (Y := YX1_fitting) (ls2 := [(3, iV 0), (0, rV (some this)), (1, iV p0), (2, iV (-2))]) dX1_fitting_49 rfl (Nat.le_of_ble_eq_true rfl) rfl) ?_
  refine b2g (fun s53 v54 he57 h58 => ?_)
  refine go_sub [1, 2, 3, 0] rfl (sX1_fitting_L50_go this p0 FU _ _ _ _ _ he57 ?_)
  clear he57
  revert h58
  refine im (go_aload_n (pc := 167) (Y := YX1_fitting) 0 dX1_fitting_167 rfl rfl) ?_
  refine flp (go_gI (pc := 168) (Y := YX1_fitting) fF13 (by decide) q215 (Or.inl rfl) dX1_fitting_168) (fun v55 => ?_)
  refine flp2 (go_if_ne (pc := 171) (Y := YX1_fitting) 179 dX1_fitting_171 (by decide)) ?_ ?_
  · refine im (go_aload_n (pc := 174) (Y := YX1_fitting) 0 dX1_fitting_174 rfl rfl) ?_
    refine im (go_iconst (pc := 175) (Y := YX1_fitting) (v := 0) dX1_fitting_175 rfl) ?_
    refine flp (go_pI (pc := 176) (Y := YX1_fitting) fF15 (by decide) q217 (Or.inl rfl) (Or.inl rfl) rfl rfl rfl dX1_fitting_176) (fun s56 => ?_)
    refine im (go_iload_n (pc := 179) (Y := YX1_fitting) 1 dX1_fitting_179 rfl rfl) ?_
    refine e2 (fun q0 q1 => ?_)
    subst q0
    subst q1
    exact go_iret (pc := 180) (Y := YX1_fitting) rfl dX1_fitting_180
  · refine im (go_iload_n (pc := 179) (Y := YX1_fitting) 1 dX1_fitting_179 rfl rfl) ?_
    refine e2 (fun q0 q1 => ?_)
    subst q0
    subst q1
    exact go_iret (pc := 180) (Y := YX1_fitting) rfl dX1_fitting_180
abbrev YX1_fits : mY := (RX1, cX1_fits, 1, (Option.some .int), 10, 230, false)
theorem YOK_X1_fits : YOK yX1_fits 0 := ⟨⟨by decide +kernel, by decide +kernel⟩, by decide +kernel⟩
theorem mX1_fits {G : gG} (s0 : St) {this : Nat} {sE : St} {vE : Int32} (h : sX1_fits s0 this = some (sE, vE)) : Mt G YX1_fits yX1_fits [rV (some this)] s0 (some (iV vE)) sE := by
  refine go_start (ls0 := [(0, rV (some this))]) (by decide +kernel) rfl (fun h => by cases h) (Nat.le_of_ble_eq_true rfl) rfl ?_
  revert h
  unfold sX1_fits
  refine im (go_aload_n (pc := 0) (Y := YX1_fits) 0 dX1_fits_0 rfl rfl) ?_
  refine flp (go_gR (pc := 1) (Y := YX1_fits) fF1001 (by decide) q201 (Or.inl rfl) dX1_fits_1) (fun v1 => ?_)
  refine flp2 (go_ifnonnull (pc := 4) (Y := YX1_fits) 13 dX1_fits_4 (by decide)) ?_ ?_
  · refine im (go_aload_n (pc := 7) (Y := YX1_fits) 0 dX1_fits_7 rfl rfl) ?_
    refine im (go_iconst (pc := 8) (Y := YX1_fits) (v := 1) dX1_fits_8 rfl) ?_
    refine kdg (fun k2 => ?_)
    refine bdg (fun s3 v4 he5 => ?_)
    refine im (go_callV (pc := 9) (Y := YX1_fits) (Yc := YX1_refused) (y := yX1_refused) (n := 1) (c0 := 0) (q := (RX1, TX1, 25)) this [iV 1] [] rfl rfl k2 (mX1_refused s0 he5) YOK_X1_refused rfl q288 q129 q287 qs0 q285 (Nat.le_of_ble_eq_true rfl) (Nat.le_of_ble_eq_true rfl) (Nat.le_of_ble_eq_true rfl) dX1_fits_9 (st2 := [iV v4]) rfl) ?_
    clear he5
    refine e2 (fun q0 q1 => ?_)
    subst q0
    subst q1
    exact go_iret (pc := 12) (Y := YX1_fits) rfl dX1_fits_12
  · refine im (go_aload_n (pc := 13) (Y := YX1_fits) 0 dX1_fits_13 rfl rfl) ?_
    refine im (go_iconst (pc := 14) (Y := YX1_fits) (v := -1) dX1_fits_14 rfl) ?_
    refine kdg (fun k6 => ?_)
    refine bdg (fun s7 v8 he9 => ?_)
    refine im (go_callV (pc := 15) (Y := YX1_fits) (Yc := YX1_fitting) (y := yX1_fitting) (n := 1) (c0 := 0) (q := (RX1, TX1, 25)) this [iV (-1)] [] rfl rfl k6 (mX1_fitting s0 he9) YOK_X1_fitting rfl q1386 q129 q1385 qs51 q1383 (Nat.le_of_ble_eq_true rfl) (Nat.le_of_ble_eq_true rfl) (Nat.le_of_ble_eq_true rfl) dX1_fits_15 (st2 := [iV v8]) rfl) ?_
    clear he9
    refine im (go_pop (pc := 18) (Y := YX1_fits) dX1_fits_18 rfl) ?_
    refine im (go_aload_n (pc := 19) (Y := YX1_fits) 0 dX1_fits_19 rfl rfl) ?_
    refine im (go_aload_n (pc := 20) (Y := YX1_fits) 0 dX1_fits_20 rfl rfl) ?_
    refine flp (go_gI (pc := 21) (Y := YX1_fits) fF13 (by decide) q215 (Or.inl rfl) dX1_fits_21) (fun v10 => ?_)
    refine kdg (fun k11 => ?_)
    refine bdg (fun s12 v13 he14 => ?_)
    refine im (go_callV (pc := 24) (Y := YX1_fits) (Yc := YX1_well) (y := yX1_well) (n := 1) (c0 := 0) (q := (RX1, TX1, 25)) this [iV v10] [] rfl rfl k11 (mX1_well s7 he14) YOK_X1_well rfl q1102 q129 q1101 qs29 q1099 (Nat.le_of_ble_eq_true rfl) (Nat.le_of_ble_eq_true rfl) (Nat.le_of_ble_eq_true rfl) dX1_fits_24 (st2 := [iV v13]) rfl) ?_
    clear he14
    refine e2 (fun q0 q1 => ?_)
    subst q0
    subst q1
    exact go_iret (pc := 27) (Y := YX1_fits) rfl dX1_fits_27
abbrev YX1_fitAt : mY := (RX1, cX1_fitAt, 3, (Option.some .int), 10, 230, false)
theorem YOK_X1_fitAt : YOK yX1_fitAt 1 := ⟨⟨by decide +kernel, by decide +kernel⟩, by decide +kernel⟩
theorem mX1_fitAt {G : gG} (s0 : St) {this : Nat} {p0 : Int32} {sE : St} {vE : Int32} (h : sX1_fitAt s0 this p0 = some (sE, vE)) : Mt G YX1_fitAt yX1_fitAt [rV (some this), iV p0] s0 (some (iV vE)) sE := by
  refine go_start (ls0 := [(0, rV (some this)), (1, iV p0)]) (by decide +kernel) rfl (fun h => by cases h) (Nat.le_of_ble_eq_true rfl) rfl ?_
  revert h
  unfold sX1_fitAt
  refine im (go_aload_n (pc := 0) (Y := YX1_fitAt) 0 dX1_fitAt_0 rfl rfl) ?_
  refine flp (go_gR (pc := 1) (Y := YX1_fitAt) fF1001 (by decide) q201 (Or.inl rfl) dX1_fitAt_1) (fun v1 => ?_)
  refine flp2 (go_ifnull (pc := 4) (Y := YX1_fitAt) 11 dX1_fitAt_4 (by decide)) ?_ ?_
  · refine im (go_aload_n (pc := 11) (Y := YX1_fitAt) 0 dX1_fitAt_11 rfl rfl) ?_
    refine im (go_iconst (pc := 12) (Y := YX1_fitAt) (v := 1) dX1_fitAt_12 rfl) ?_
    refine kdg (fun k2 => ?_)
    refine bdg (fun s3 v4 he5 => ?_)
    refine im (go_callV (pc := 13) (Y := YX1_fitAt) (Yc := YX1_refused) (y := yX1_refused) (n := 1) (c0 := 0) (q := (RX1, TX1, 25)) this [iV 1] [] rfl rfl k2 (mX1_refused s0 he5) YOK_X1_refused rfl q288 q129 q287 qs0 q285 (Nat.le_of_ble_eq_true rfl) (Nat.le_of_ble_eq_true rfl) (Nat.le_of_ble_eq_true rfl) dX1_fitAt_13 (st2 := [iV v4]) rfl) ?_
    clear he5
    refine e2 (fun q0 q1 => ?_)
    subst q0
    subst q1
    exact go_iret (pc := 16) (Y := YX1_fitAt) rfl dX1_fitAt_16
  · refine im (go_iload_n (pc := 7) (Y := YX1_fitAt) 1 dX1_fitAt_7 rfl rfl) ?_
    refine flp2 (go_if_ge (pc := 8) (Y := YX1_fitAt) 17 dX1_fitAt_8 (by decide)) ?_ ?_
    · refine im (go_aload_n (pc := 17) (Y := YX1_fitAt) 0 dX1_fitAt_17 rfl rfl) ?_
      refine im (go_iload_n (pc := 18) (Y := YX1_fitAt) 1 dX1_fitAt_18 rfl rfl) ?_
      refine kdg (fun k6 => ?_)
      refine bdg (fun s7 v8 he9 => ?_)
      refine im (go_callV (pc := 19) (Y := YX1_fitAt) (Yc := YX1_fitting) (y := yX1_fitting) (n := 1) (c0 := 0) (q := (RX1, TX1, 25)) this [iV p0] [] rfl rfl k6 (mX1_fitting s0 he9) YOK_X1_fitting rfl q1386 q129 q1385 qs51 q1383 (Nat.le_of_ble_eq_true rfl) (Nat.le_of_ble_eq_true rfl) (Nat.le_of_ble_eq_true rfl) dX1_fitAt_19 (st2 := [iV v8]) rfl) ?_
      clear he9
      refine im (go_istore_n (pc := 22) (Y := YX1_fitAt) (ls2 := [(2, iV v8), (0, rV (some this)), (1, iV p0)]) dX1_fitAt_22 rfl (Nat.le_of_ble_eq_true rfl) rfl) ?_
      refine im (go_iload_n (pc := 23) (Y := YX1_fitAt) 0 dX1_fitAt_23 rfl rfl) ?_
      refine im (go_bipush (pc := 24) (Y := YX1_fitAt) (v := -2) dX1_fitAt_24 rfl) ?_
      refine flp2 (go_icmp_ne (pc := 26) (Y := YX1_fitAt) 37 dX1_fitAt_26 (by decide)) ?_ ?_
      · refine im (go_aload_n (pc := 29) (Y := YX1_fitAt) 1 dX1_fitAt_29 rfl rfl) ?_
        refine im (go_iconst (pc := 30) (Y := YX1_fitAt) (v := 1) dX1_fitAt_30 rfl) ?_
        refine kdg (fun k10 => ?_)
        refine bdg (fun s11 v12 he13 => ?_)
        refine im (go_callV (pc := 31) (Y := YX1_fitAt) (Yc := YX1_refused) (y := yX1_refused) (n := 1) (c0 := 0) (q := (RX1, TX1, 25)) this [iV 1] [] rfl rfl k10 (mX1_refused s7 he13) YOK_X1_refused rfl q288 q129 q287 qs0 q285 (Nat.le_of_ble_eq_true rfl) (Nat.le_of_ble_eq_true rfl) (Nat.le_of_ble_eq_true rfl) dX1_fitAt_31 (st2 := [iV v12]) rfl) ?_
        clear he13
        refine im (go_goto (pc := 34) (Y := YX1_fitAt) 42 dX1_fitAt_34 (by decide)) ?_
        refine e2 (fun q0 q1 => ?_)
        subst q0
        subst q1
        exact go_iret (pc := 42) (Y := YX1_fitAt) rfl dX1_fitAt_42
      · refine im (go_aload_n (pc := 37) (Y := YX1_fitAt) 1 dX1_fitAt_37 rfl rfl) ?_
        refine im (go_iload_n (pc := 38) (Y := YX1_fitAt) 0 dX1_fitAt_38 rfl rfl) ?_
        refine kdg (fun k14 => ?_)
        refine bdg (fun s15 v16 he17 => ?_)
        refine im (go_callV (pc := 39) (Y := YX1_fitAt) (Yc := YX1_well) (y := yX1_well) (n := 1) (c0 := 0) (q := (RX1, TX1, 25)) this [iV v8] [] rfl rfl k14 (mX1_well s7 he17) YOK_X1_well rfl q1102 q129 q1101 qs29 q1099 (Nat.le_of_ble_eq_true rfl) (Nat.le_of_ble_eq_true rfl) (Nat.le_of_ble_eq_true rfl) dX1_fitAt_39 (st2 := [iV v16]) rfl) ?_
        clear he17
        refine e2 (fun q0 q1 => ?_)
        subst q0
        subst q1
        exact go_iret (pc := 42) (Y := YX1_fitAt) rfl dX1_fitAt_42
    · refine im (go_aload_n (pc := 11) (Y := YX1_fitAt) 0 dX1_fitAt_11 rfl rfl) ?_
      refine im (go_iconst (pc := 12) (Y := YX1_fitAt) (v := 1) dX1_fitAt_12 rfl) ?_
      refine kdg (fun k18 => ?_)
      refine bdg (fun s19 v20 he21 => ?_)
      refine im (go_callV (pc := 13) (Y := YX1_fitAt) (Yc := YX1_refused) (y := yX1_refused) (n := 1) (c0 := 0) (q := (RX1, TX1, 25)) this [iV 1] [] rfl rfl k18 (mX1_refused s0 he21) YOK_X1_refused rfl q288 q129 q287 qs0 q285 (Nat.le_of_ble_eq_true rfl) (Nat.le_of_ble_eq_true rfl) (Nat.le_of_ble_eq_true rfl) dX1_fitAt_13 (st2 := [iV v20]) rfl) ?_
      clear he21
      refine e2 (fun q0 q1 => ?_)
      subst q0
      subst q1
      exact go_iret (pc := 16) (Y := YX1_fitAt) rfl dX1_fitAt_16
abbrev YX1_could : mY := (RX1, cX1_could, 1, (Option.some .int), 10, 230, false)
theorem YOK_X1_could : YOK yX1_could 0 := ⟨⟨by decide +kernel, by decide +kernel⟩, by decide +kernel⟩
theorem mX1_could {G : gG} (s0 : St) {this : Nat} {sE : St} {vE : Int32} (h : sX1_could s0 this = some (sE, vE)) : Mt G YX1_could yX1_could [rV (some this)] s0 (some (iV vE)) sE := by
  refine go_start (ls0 := [(0, rV (some this))]) (by decide +kernel) rfl (fun h => by cases h) (Nat.le_of_ble_eq_true rfl) rfl ?_
  revert h
  unfold sX1_could
  refine im (go_aload_n (pc := 0) (Y := YX1_could) 0 dX1_could_0 rfl rfl) ?_
  refine flp (go_gR (pc := 1) (Y := YX1_could) fF1001 (by decide) q201 (Or.inl rfl) dX1_could_1) (fun v1 => ?_)
  refine flp2 (go_ifnonnull (pc := 4) (Y := YX1_could) 13 dX1_could_4 (by decide)) ?_ ?_
  · refine im (go_aload_n (pc := 7) (Y := YX1_could) 0 dX1_could_7 rfl rfl) ?_
    refine im (go_iconst (pc := 8) (Y := YX1_could) (v := 1) dX1_could_8 rfl) ?_
    refine kdg (fun k2 => ?_)
    refine bdg (fun s3 v4 he5 => ?_)
    refine im (go_callV (pc := 9) (Y := YX1_could) (Yc := YX1_refused) (y := yX1_refused) (n := 1) (c0 := 0) (q := (RX1, TX1, 25)) this [iV 1] [] rfl rfl k2 (mX1_refused s0 he5) YOK_X1_refused rfl q288 q129 q287 qs0 q285 (Nat.le_of_ble_eq_true rfl) (Nat.le_of_ble_eq_true rfl) (Nat.le_of_ble_eq_true rfl) dX1_could_9 (st2 := [iV v4]) rfl) ?_
    clear he5
    refine e2 (fun q0 q1 => ?_)
    subst q0
    subst q1
    exact go_iret (pc := 12) (Y := YX1_could) rfl dX1_could_12
  · refine im (go_aload_n (pc := 13) (Y := YX1_could) 0 dX1_could_13 rfl rfl) ?_
    refine im (go_iconst (pc := 14) (Y := YX1_could) (v := -1) dX1_could_14 rfl) ?_
    refine kdg (fun k6 => ?_)
    refine bdg (fun s7 v8 he9 => ?_)
    refine im (go_callV (pc := 15) (Y := YX1_could) (Yc := YX1_fitting) (y := yX1_fitting) (n := 1) (c0 := 0) (q := (RX1, TX1, 25)) this [iV (-1)] [] rfl rfl k6 (mX1_fitting s0 he9) YOK_X1_fitting rfl q1386 q129 q1385 qs51 q1383 (Nat.le_of_ble_eq_true rfl) (Nat.le_of_ble_eq_true rfl) (Nat.le_of_ble_eq_true rfl) dX1_could_15 (st2 := [iV v8]) rfl) ?_
    clear he9
    refine im (go_pop (pc := 18) (Y := YX1_could) dX1_could_18 rfl) ?_
    refine im (go_aload_n (pc := 19) (Y := YX1_could) 0 dX1_could_19 rfl rfl) ?_
    refine im (go_aload_n (pc := 20) (Y := YX1_could) 0 dX1_could_20 rfl rfl) ?_
    refine flp (go_gI (pc := 21) (Y := YX1_could) fF14 (by decide) q216 (Or.inl rfl) dX1_could_21) (fun v10 => ?_)
    refine kdg (fun k11 => ?_)
    refine bdg (fun s12 v13 he14 => ?_)
    refine im (go_callV (pc := 24) (Y := YX1_could) (Yc := YX1_well) (y := yX1_well) (n := 1) (c0 := 0) (q := (RX1, TX1, 25)) this [iV v10] [] rfl rfl k11 (mX1_well s7 he14) YOK_X1_well rfl q1102 q129 q1101 qs29 q1099 (Nat.le_of_ble_eq_true rfl) (Nat.le_of_ble_eq_true rfl) (Nat.le_of_ble_eq_true rfl) dX1_could_24 (st2 := [iV v13]) rfl) ?_
    clear he14
    refine e2 (fun q0 q1 => ?_)
    subst q0
    subst q1
    exact go_iret (pc := 27) (Y := YX1_could) rfl dX1_could_27
abbrev YX1_surely : mY := (RX1, cX1_surely, 1, (Option.some .int), 10, 230, false)
theorem YOK_X1_surely : YOK yX1_surely 0 := ⟨⟨by decide +kernel, by decide +kernel⟩, by decide +kernel⟩
theorem mX1_surely {G : gG} (s0 : St) {this : Nat} {sE : St} {vE : Int32} (h : sX1_surely s0 this = some (sE, vE)) : Mt G YX1_surely yX1_surely [rV (some this)] s0 (some (iV vE)) sE := by
  refine go_start (ls0 := [(0, rV (some this))]) (by decide +kernel) rfl (fun h => by cases h) (Nat.le_of_ble_eq_true rfl) rfl ?_
  revert h
  unfold sX1_surely
  refine im (go_aload_n (pc := 0) (Y := YX1_surely) 0 dX1_surely_0 rfl rfl) ?_
  refine flp (go_gR (pc := 1) (Y := YX1_surely) fF1001 (by decide) q201 (Or.inl rfl) dX1_surely_1) (fun v1 => ?_)
  refine flp2 (go_ifnonnull (pc := 4) (Y := YX1_surely) 13 dX1_surely_4 (by decide)) ?_ ?_
  · refine im (go_aload_n (pc := 7) (Y := YX1_surely) 0 dX1_surely_7 rfl rfl) ?_
    refine im (go_iconst (pc := 8) (Y := YX1_surely) (v := 1) dX1_surely_8 rfl) ?_
    refine kdg (fun k2 => ?_)
    refine bdg (fun s3 v4 he5 => ?_)
    refine im (go_callV (pc := 9) (Y := YX1_surely) (Yc := YX1_refused) (y := yX1_refused) (n := 1) (c0 := 0) (q := (RX1, TX1, 25)) this [iV 1] [] rfl rfl k2 (mX1_refused s0 he5) YOK_X1_refused rfl q288 q129 q287 qs0 q285 (Nat.le_of_ble_eq_true rfl) (Nat.le_of_ble_eq_true rfl) (Nat.le_of_ble_eq_true rfl) dX1_surely_9 (st2 := [iV v4]) rfl) ?_
    clear he5
    refine e2 (fun q0 q1 => ?_)
    subst q0
    subst q1
    exact go_iret (pc := 12) (Y := YX1_surely) rfl dX1_surely_12
  · refine im (go_aload_n (pc := 13) (Y := YX1_surely) 0 dX1_surely_13 rfl rfl) ?_
    refine im (go_iconst (pc := 14) (Y := YX1_surely) (v := -1) dX1_surely_14 rfl) ?_
    refine kdg (fun k6 => ?_)
    refine bdg (fun s7 v8 he9 => ?_)
    refine im (go_callV (pc := 15) (Y := YX1_surely) (Yc := YX1_fitting) (y := yX1_fitting) (n := 1) (c0 := 0) (q := (RX1, TX1, 25)) this [iV (-1)] [] rfl rfl k6 (mX1_fitting s0 he9) YOK_X1_fitting rfl q1386 q129 q1385 qs51 q1383 (Nat.le_of_ble_eq_true rfl) (Nat.le_of_ble_eq_true rfl) (Nat.le_of_ble_eq_true rfl) dX1_surely_15 (st2 := [iV v8]) rfl) ?_
    clear he9
    refine im (go_pop (pc := 18) (Y := YX1_surely) dX1_surely_18 rfl) ?_
    refine im (go_aload_n (pc := 19) (Y := YX1_surely) 0 dX1_surely_19 rfl rfl) ?_
    refine im (go_aload_n (pc := 20) (Y := YX1_surely) 0 dX1_surely_20 rfl rfl) ?_
    refine flp (go_gI (pc := 21) (Y := YX1_surely) fF15 (by decide) q217 (Or.inl rfl) dX1_surely_21) (fun v10 => ?_)
    refine kdg (fun k11 => ?_)
    refine bdg (fun s12 v13 he14 => ?_)
    refine im (go_callV (pc := 24) (Y := YX1_surely) (Yc := YX1_well) (y := yX1_well) (n := 1) (c0 := 0) (q := (RX1, TX1, 25)) this [iV v10] [] rfl rfl k11 (mX1_well s7 he14) YOK_X1_well rfl q1102 q129 q1101 qs29 q1099 (Nat.le_of_ble_eq_true rfl) (Nat.le_of_ble_eq_true rfl) (Nat.le_of_ble_eq_true rfl) dX1_surely_24 (st2 := [iV v13]) rfl) ?_
    clear he14
    refine e2 (fun q0 q1 => ?_)
    subst q0
    subst q1
    exact go_iret (pc := 27) (Y := YX1_surely) rfl dX1_surely_27
abbrev YX1_asks : mY := (RX1, cX1_asks, 4, (Option.some .int), 10, 230, false)
theorem YOK_X1_asks : YOK yX1_asks 0 := ⟨⟨by decide +kernel, by decide +kernel⟩, by decide +kernel⟩
theorem sX1_asks_L17_go {G : gG} {s0 sE : St} {rE : Option V3} (this : Nat) : ∀ (n : Nat) (s6 : St) (v7 : Int32) (v8 : Int32) (s9 : St) (v10 : Int32), sX1_asks_L17 this n s6 v7 v8 = some (s9, v10) → Go G YX1_asks s0 sE rE 86 [(1, iV v10)] [] s9 → Go G YX1_asks s0 sE rE 17 [(0, rV (some this)), (1, iV v7), (2, iV v8)] [] s6 := by
  intro n
  induction n with
  | zero => intro s6 v7 v8 s9 v10 h hx; rw [sX1_asks_L17] at h; cases h
  | succ n ih =>
    intro s6 v7 v8 s9 v10 h hx
    revert h
    rw [sX1_asks_L17]
    refine im (go_iload_n (pc := 17) (Y := YX1_asks) 2 dX1_asks_17 rfl rfl) ?_
    refine im (go_aload_n (pc := 18) (Y := YX1_asks) 0 dX1_asks_18 rfl rfl) ?_
    refine flp (go_gR (pc := 19) (Y := YX1_asks) fF1001 (by decide) q201 (Or.inl rfl) dX1_asks_19) (fun v11 => ?_)
    refine flp (go_gI (pc := 22) (Y := YX1_asks) fF52 (by decide) q327 (Or.inl rfl) dX1_asks_22) (fun v12 => ?_)
    refine flp2 (go_icmp_ge (pc := 25) (Y := YX1_asks) 86 dX1_asks_25 (by decide)) ?_ ?_
    · refine e2 (fun q0 q1 => ?_)
      subst q0
      subst q1
      exact go_sub [1] rfl hx
    · refine im (go_aload_n (pc := 28) (Y := YX1_asks) 0 dX1_asks_28 rfl rfl) ?_
      refine flp (go_gI (pc := 29) (Y := YX1_asks) fF13 (by decide) q215 (Or.inl rfl) dX1_asks_29) (fun v13 => ?_)
      refine flp2 (go_if_le (pc := 32) (Y := YX1_asks) 86 dX1_asks_32 (by decide)) ?_ ?_
      · refine e2 (fun q0 q1 => ?_)
        subst q0
        subst q1
        exact go_sub [1] rfl hx
      · refine im (go_aload_n (pc := 35) (Y := YX1_asks) 0 dX1_asks_35 rfl rfl) ?_
        refine flp (go_gR (pc := 36) (Y := YX1_asks) fF1006 (by decide) q218 (Or.inl rfl) dX1_asks_36) (fun v14 => ?_)
        refine im (go_iload_n (pc := 39) (Y := YX1_asks) 2 dX1_asks_39 rfl rfl) ?_
        refine flp (go_lI1 (pc := 40) (Y := YX1_asks) dX1_asks_40) (fun v15 => ?_)
        refine im (go_aload_n (pc := 41) (Y := YX1_asks) 0 dX1_asks_41 rfl rfl) ?_
        refine flp (go_gI (pc := 42) (Y := YX1_asks) fF13 (by decide) q215 (Or.inl rfl) dX1_asks_42) (fun v16 => ?_)
        refine im (go_aload_n (pc := 45) (Y := YX1_asks) 0 dX1_asks_45 rfl rfl) ?_
        refine flp (go_gR (pc := 46) (Y := YX1_asks) fF1006 (by decide) q218 (Or.inl rfl) dX1_asks_46) (fun v17 => ?_)
        refine im (go_iload_n (pc := 49) (Y := YX1_asks) 2 dX1_asks_49 rfl rfl) ?_
        refine flp (go_lI1 (pc := 50) (Y := YX1_asks) dX1_asks_50) (fun v18 => ?_)
        refine im (go_isub (pc := 51) (Y := YX1_asks) dX1_asks_51) ?_
        refine im (go_max (pc := 52) (Y := YX1_asks) q1411 q451 q143 q452 (Nat.le_of_ble_eq_true rfl) (Nat.le_of_ble_eq_true rfl) dX1_asks_52) ?_
        refine im (go_istore_n (pc := 55) (Y := YX1_asks) (ls2 := [(3, iV (mxI v15 (v16 - v18))), (0, rV (some this)), (1, iV v7), (2, iV v8)]) dX1_asks_55 rfl (Nat.le_of_ble_eq_true rfl) rfl) ?_
        refine im (go_iload_n (pc := 56) (Y := YX1_asks) 2 dX1_asks_56 rfl rfl) ?_
        refine im (go_bipush (pc := 57) (Y := YX1_asks) (v := -2) dX1_asks_57 rfl) ?_
        refine b2g (fun s19 v20 he24 h25 => ?_)
        have hj80 : Go G YX1_asks s0 sE rE 80 [(0, rV (some this)), (1, iV v20), (2, iV v8)] [] s19 := by
          clear he24
          revert h25
          refine im (go_iinc (pc := 80) (Y := YX1_asks) 2 (v := (v8 + 1)) (ls2 := [(2, iV (v8 + 1)), (0, rV (some this)), (1, iV v20)]) dX1_asks_80 rfl rfl (Nat.le_of_ble_eq_true rfl) rfl) ?_
          refine im (go_goto (pc := 83) (Y := YX1_asks) 17 dX1_asks_83 (by decide)) ?_
          exact fun hq => go_sub [1, 2, 0] rfl (ih _ _ _ _ _ hq hx)
        clear h25
        revert he24
        refine flp2 (go_icmp_eq (pc := 59) (Y := YX1_asks) 73 dX1_asks_59 (by decide)) ?_ ?_
        · refine im (go_iload_n (pc := 73) (Y := YX1_asks) 3 dX1_asks_73 rfl rfl) ?_
          refine im (go_istore_n (pc := 74) (Y := YX1_asks) (ls2 := [(1, iV v8), (3, iV (mxI v15 (v16 - v18))), (0, rV (some this)), (2, iV v8)]) dX1_asks_74 rfl (Nat.le_of_ble_eq_true rfl) rfl) ?_
          refine im (go_aload_n (pc := 75) (Y := YX1_asks) 2 dX1_asks_75 rfl rfl) ?_
          refine im (go_iload_n (pc := 76) (Y := YX1_asks) 1 dX1_asks_76 rfl rfl) ?_
          refine flp (go_pI (pc := 77) (Y := YX1_asks) fF16 (by decide) q219 (Or.inl rfl) (Or.inl rfl) rfl rfl rfl dX1_asks_77) (fun s21 => ?_)
          refine e2 (fun q0 q1 => ?_)
          subst q0
          subst q1
          exact go_sub [2, 0, 3] rfl hj80
        · refine im (go_iload_n (pc := 62) (Y := YX1_asks) 0 dX1_asks_62 rfl rfl) ?_
          refine im (go_aload_n (pc := 63) (Y := YX1_asks) 1 dX1_asks_63 rfl rfl) ?_
          refine flp (go_gI (pc := 64) (Y := YX1_asks) fF16 (by decide) q219 (Or.inl rfl) dX1_asks_64) (fun v22 => ?_)
          refine flp2 (go_icmp_lt (pc := 67) (Y := YX1_asks) 73 dX1_asks_67 (by decide)) ?_ ?_
          · refine im (go_iload_n (pc := 73) (Y := YX1_asks) 3 dX1_asks_73 rfl rfl) ?_
            refine im (go_istore_n (pc := 74) (Y := YX1_asks) (ls2 := [(1, iV v8), (3, iV (mxI v15 (v16 - v18))), (0, rV (some this)), (2, iV v8)]) dX1_asks_74 rfl (Nat.le_of_ble_eq_true rfl) rfl) ?_
            refine im (go_aload_n (pc := 75) (Y := YX1_asks) 2 dX1_asks_75 rfl rfl) ?_
            refine im (go_iload_n (pc := 76) (Y := YX1_asks) 1 dX1_asks_76 rfl rfl) ?_
            refine flp (go_pI (pc := 77) (Y := YX1_asks) fF16 (by decide) q219 (Or.inl rfl) (Or.inl rfl) rfl rfl rfl dX1_asks_77) (fun s23 => ?_)
            refine e2 (fun q0 q1 => ?_)
            subst q0
            subst q1
            exact go_sub [2, 0, 3] rfl hj80
          · refine im (go_goto (pc := 70) (Y := YX1_asks) 80 dX1_asks_70 (by decide)) ?_
            refine e2 (fun q0 q1 => ?_)
            subst q0
            subst q1
            exact go_sub [1, 2, 3] rfl hj80
theorem mX1_asks {G : gG} (s0 : St) {this : Nat} {sE : St} {vE : Int32} (h : sX1_asks s0 this = some (sE, vE)) : Mt G YX1_asks yX1_asks [rV (some this)] s0 (some (iV vE)) sE := by
  refine go_start (ls0 := [(0, rV (some this))]) (by decide +kernel) rfl (fun h => by cases h) (Nat.le_of_ble_eq_true rfl) rfl ?_
  revert h
  unfold sX1_asks
  refine im (go_aload_n (pc := 0) (Y := YX1_asks) 0 dX1_asks_0 rfl rfl) ?_
  refine im (go_iconst (pc := 1) (Y := YX1_asks) (v := -1) dX1_asks_1 rfl) ?_
  refine kdg (fun k1 => ?_)
  refine bdg (fun s2 v3 he4 => ?_)
  refine im (go_callV (pc := 2) (Y := YX1_asks) (Yc := YX1_fitting) (y := yX1_fitting) (n := 1) (c0 := 0) (q := (RX1, TX1, 25)) this [iV (-1)] [] rfl rfl k1 (mX1_fitting s0 he4) YOK_X1_fitting rfl q1386 q129 q1385 qs51 q1383 (Nat.le_of_ble_eq_true rfl) (Nat.le_of_ble_eq_true rfl) (Nat.le_of_ble_eq_true rfl) dX1_asks_2 (st2 := [iV v3]) rfl) ?_
  clear he4
  refine im (go_pop (pc := 5) (Y := YX1_asks) dX1_asks_5 rfl) ?_
  refine im (go_bipush (pc := 6) (Y := YX1_asks) (v := -2) dX1_asks_6 rfl) ?_
  refine im (go_istore_n (pc := 8) (Y := YX1_asks) (ls2 := [(1, iV (-2)), (0, rV (some this))]) dX1_asks_8 rfl (Nat.le_of_ble_eq_true rfl) rfl) ?_
  refine im (go_aload_n (pc := 9) (Y := YX1_asks) 1 dX1_asks_9 rfl rfl) ?_
  refine im (go_bipush (pc := 10) (Y := YX1_asks) (v := -2) dX1_asks_10 rfl) ?_
  refine flp (go_pI (pc := 12) (Y := YX1_asks) fF16 (by decide) q219 (Or.inl rfl) (Or.inl rfl) rfl rfl rfl dX1_asks_12) (fun s5 => ?_)
  refine im (go_iconst (pc := 15) (Y := YX1_asks) (v := 0) dX1_asks_15 rfl) ?_
  refine im (go_istore_n (pc := 16) (Y := YX1_asks) (ls2 := [(2, iV 0), (1, iV (-2)), (0, rV (some this))]) dX1_asks_16 rfl (Nat.le_of_ble_eq_true rfl) rfl) ?_
  refine b2g (fun s26 v27 he28 h29 => ?_)
  refine go_sub [2, 1, 0] rfl (sX1_asks_L17_go this FU _ _ _ _ _ he28 ?_)
  clear he28
  revert h29
  refine im (go_iload_n (pc := 86) (Y := YX1_asks) 0 dX1_asks_86 rfl rfl) ?_
  refine e2 (fun q0 q1 => ?_)
  subst q0
  subst q1
  exact go_iret (pc := 87) (Y := YX1_asks) rfl dX1_asks_87
abbrev YX1_ask : mY := (RX1, cX1_ask, 1, (Option.some .int), 11, 253, false)
theorem YOK_X1_ask : YOK yX1_ask 0 := ⟨⟨by decide +kernel, by decide +kernel⟩, by decide +kernel⟩
theorem mX1_ask {G : gG} (s0 : St) {this : Nat} {sE : St} {vE : Int32} (h : sX1_ask s0 this = some (sE, vE)) : Mt G YX1_ask yX1_ask [rV (some this)] s0 (some (iV vE)) sE := by
  refine go_start (ls0 := [(0, rV (some this))]) (by decide +kernel) rfl (fun h => by cases h) (Nat.le_of_ble_eq_true rfl) rfl ?_
  revert h
  unfold sX1_ask
  refine im (go_aload_n (pc := 0) (Y := YX1_ask) 0 dX1_ask_0 rfl rfl) ?_
  refine flp (go_gR (pc := 1) (Y := YX1_ask) fF1001 (by decide) q201 (Or.inl rfl) dX1_ask_1) (fun v1 => ?_)
  refine flp2 (go_ifnonnull (pc := 4) (Y := YX1_ask) 15 dX1_ask_4 (by decide)) ?_ ?_
  · refine im (go_aload_n (pc := 7) (Y := YX1_ask) 0 dX1_ask_7 rfl rfl) ?_
    refine im (go_iconst (pc := 8) (Y := YX1_ask) (v := 1) dX1_ask_8 rfl) ?_
    refine kdg (fun k2 => ?_)
    refine bdg (fun s3 v4 he5 => ?_)
    refine im (go_callV (pc := 9) (Y := YX1_ask) (Yc := YX1_refused) (y := yX1_refused) (n := 1) (c0 := 0) (q := (RX1, TX1, 25)) this [iV 1] [] rfl rfl k2 (mX1_refused s0 he5) YOK_X1_refused rfl q288 q129 q287 qs0 q285 (Nat.le_of_ble_eq_true rfl) (Nat.le_of_ble_eq_true rfl) (Nat.le_of_ble_eq_true rfl) dX1_ask_9 (st2 := [iV v4]) rfl) ?_
    clear he5
    refine im (go_goto (pc := 12) (Y := YX1_ask) 23 dX1_ask_12 (by decide)) ?_
    refine e2 (fun q0 q1 => ?_)
    subst q0
    subst q1
    exact go_iret (pc := 23) (Y := YX1_ask) rfl dX1_ask_23
  · refine im (go_aload_n (pc := 15) (Y := YX1_ask) 0 dX1_ask_15 rfl rfl) ?_
    refine im (go_aload_n (pc := 16) (Y := YX1_ask) 0 dX1_ask_16 rfl rfl) ?_
    refine kdg (fun k6 => ?_)
    refine bdg (fun s7 v8 he9 => ?_)
    refine im (go_callV (pc := 17) (Y := YX1_ask) (Yc := YX1_asks) (y := yX1_asks) (n := 0) (c0 := 0) (q := (RX1, TX1, 25)) this [] [rV (some this)] rfl rfl k6 (mX1_asks s0 he9) YOK_X1_asks rfl q1410 q129 q1409 qs53 q1407 (Nat.le_of_ble_eq_true rfl) (Nat.le_of_ble_eq_true rfl) (Nat.le_of_ble_eq_true rfl) dX1_ask_17 (st2 := [iV v8, rV (some this)]) rfl) ?_
    clear he9
    refine kdg (fun k10 => ?_)
    refine bdg (fun s11 v12 he13 => ?_)
    refine im (go_callV (pc := 20) (Y := YX1_ask) (Yc := YX1_well) (y := yX1_well) (n := 1) (c0 := 0) (q := (RX1, TX1, 25)) this [iV v8] [] rfl rfl k10 (mX1_well s7 he13) YOK_X1_well rfl q1102 q129 q1101 qs29 q1099 (Nat.le_of_ble_eq_true rfl) (Nat.le_of_ble_eq_true rfl) (Nat.le_of_ble_eq_true rfl) dX1_ask_20 (st2 := [iV v12]) rfl) ?_
    clear he13
    refine e2 (fun q0 q1 => ?_)
    subst q0
    subst q1
    exact go_iret (pc := 23) (Y := YX1_ask) rfl dX1_ask_23
abbrev YX1_askLeaves : mY := (RX1, cX1_askLeaves, 1, (Option.some .int), 11, 253, false)
theorem YOK_X1_askLeaves : YOK yX1_askLeaves 0 := ⟨⟨by decide +kernel, by decide +kernel⟩, by decide +kernel⟩
theorem mX1_askLeaves {G : gG} (s0 : St) {this : Nat} {sE : St} {vE : Int32} (h : sX1_askLeaves s0 this = some (sE, vE)) : Mt G YX1_askLeaves yX1_askLeaves [rV (some this)] s0 (some (iV vE)) sE := by
  refine go_start (ls0 := [(0, rV (some this))]) (by decide +kernel) rfl (fun h => by cases h) (Nat.le_of_ble_eq_true rfl) rfl ?_
  revert h
  unfold sX1_askLeaves
  refine im (go_aload_n (pc := 0) (Y := YX1_askLeaves) 0 dX1_askLeaves_0 rfl rfl) ?_
  refine flp (go_gR (pc := 1) (Y := YX1_askLeaves) fF1001 (by decide) q201 (Or.inl rfl) dX1_askLeaves_1) (fun v1 => ?_)
  refine flp2 (go_ifnonnull (pc := 4) (Y := YX1_askLeaves) 13 dX1_askLeaves_4 (by decide)) ?_ ?_
  · refine im (go_aload_n (pc := 7) (Y := YX1_askLeaves) 0 dX1_askLeaves_7 rfl rfl) ?_
    refine im (go_iconst (pc := 8) (Y := YX1_askLeaves) (v := 1) dX1_askLeaves_8 rfl) ?_
    refine kdg (fun k2 => ?_)
    refine bdg (fun s3 v4 he5 => ?_)
    refine im (go_callV (pc := 9) (Y := YX1_askLeaves) (Yc := YX1_refused) (y := yX1_refused) (n := 1) (c0 := 0) (q := (RX1, TX1, 25)) this [iV 1] [] rfl rfl k2 (mX1_refused s0 he5) YOK_X1_refused rfl q288 q129 q287 qs0 q285 (Nat.le_of_ble_eq_true rfl) (Nat.le_of_ble_eq_true rfl) (Nat.le_of_ble_eq_true rfl) dX1_askLeaves_9 (st2 := [iV v4]) rfl) ?_
    clear he5
    refine e2 (fun q0 q1 => ?_)
    subst q0
    subst q1
    exact go_iret (pc := 12) (Y := YX1_askLeaves) rfl dX1_askLeaves_12
  · refine im (go_aload_n (pc := 13) (Y := YX1_askLeaves) 0 dX1_askLeaves_13 rfl rfl) ?_
    refine kdg (fun k6 => ?_)
    refine bdg (fun s7 v8 he9 => ?_)
    refine im (go_callV (pc := 14) (Y := YX1_askLeaves) (Yc := YX1_asks) (y := yX1_asks) (n := 0) (c0 := 0) (q := (RX1, TX1, 25)) this [] [] rfl rfl k6 (mX1_asks s0 he9) YOK_X1_asks rfl q1410 q129 q1409 qs53 q1407 (Nat.le_of_ble_eq_true rfl) (Nat.le_of_ble_eq_true rfl) (Nat.le_of_ble_eq_true rfl) dX1_askLeaves_14 (st2 := [iV v8]) rfl) ?_
    clear he9
    refine im (go_pop (pc := 17) (Y := YX1_askLeaves) dX1_askLeaves_17 rfl) ?_
    refine im (go_aload_n (pc := 18) (Y := YX1_askLeaves) 0 dX1_askLeaves_18 rfl rfl) ?_
    refine im (go_aload_n (pc := 19) (Y := YX1_askLeaves) 0 dX1_askLeaves_19 rfl rfl) ?_
    refine flp (go_gI (pc := 20) (Y := YX1_askLeaves) fF16 (by decide) q219 (Or.inl rfl) dX1_askLeaves_20) (fun v10 => ?_)
    refine kdg (fun k11 => ?_)
    refine bdg (fun s12 v13 he14 => ?_)
    refine im (go_callV (pc := 23) (Y := YX1_askLeaves) (Yc := YX1_well) (y := yX1_well) (n := 1) (c0 := 0) (q := (RX1, TX1, 25)) this [iV v10] [] rfl rfl k11 (mX1_well s7 he14) YOK_X1_well rfl q1102 q129 q1101 qs29 q1099 (Nat.le_of_ble_eq_true rfl) (Nat.le_of_ble_eq_true rfl) (Nat.le_of_ble_eq_true rfl) dX1_askLeaves_23 (st2 := [iV v13]) rfl) ?_
    clear he14
    refine e2 (fun q0 q1 => ?_)
    subst q0
    subst q1
    exact go_iret (pc := 26) (Y := YX1_askLeaves) rfl dX1_askLeaves_26
abbrev YX1_judge : mY := (RX1, cX1_judge, 1, (Option.some .int), 9, 206, false)
theorem YOK_X1_judge : YOK yX1_judge 0 := ⟨⟨by decide +kernel, by decide +kernel⟩, by decide +kernel⟩
theorem mX1_judge {G : gG} (s0 : St) {this : Nat} {sE : St} {vE : Int32} (h : sX1_judge s0 this = some (sE, vE)) : Mt G YX1_judge yX1_judge [rV (some this)] s0 (some (iV vE)) sE := by
  refine go_start (ls0 := [(0, rV (some this))]) (by decide +kernel) rfl (fun h => by cases h) (Nat.le_of_ble_eq_true rfl) rfl ?_
  revert h
  unfold sX1_judge
  refine im (go_aload_n (pc := 0) (Y := YX1_judge) 0 dX1_judge_0 rfl rfl) ?_
  refine flp (go_gR (pc := 1) (Y := YX1_judge) fF1001 (by decide) q201 (Or.inl rfl) dX1_judge_1) (fun v1 => ?_)
  refine flp2 (go_ifnonnull (pc := 4) (Y := YX1_judge) 15 dX1_judge_4 (by decide)) ?_ ?_
  · refine im (go_aload_n (pc := 7) (Y := YX1_judge) 0 dX1_judge_7 rfl rfl) ?_
    refine im (go_iconst (pc := 8) (Y := YX1_judge) (v := 1) dX1_judge_8 rfl) ?_
    refine kdg (fun k2 => ?_)
    refine bdg (fun s3 v4 he5 => ?_)
    refine im (go_callV (pc := 9) (Y := YX1_judge) (Yc := YX1_refused) (y := yX1_refused) (n := 1) (c0 := 0) (q := (RX1, TX1, 25)) this [iV 1] [] rfl rfl k2 (mX1_refused s0 he5) YOK_X1_refused rfl q288 q129 q287 qs0 q285 (Nat.le_of_ble_eq_true rfl) (Nat.le_of_ble_eq_true rfl) (Nat.le_of_ble_eq_true rfl) dX1_judge_9 (st2 := [iV v4]) rfl) ?_
    clear he5
    refine im (go_goto (pc := 12) (Y := YX1_judge) 24 dX1_judge_12 (by decide)) ?_
    refine e2 (fun q0 q1 => ?_)
    subst q0
    subst q1
    exact go_iret (pc := 24) (Y := YX1_judge) rfl dX1_judge_24
  · refine im (go_aload_n (pc := 15) (Y := YX1_judge) 0 dX1_judge_15 rfl rfl) ?_
    refine im (go_aload_n (pc := 16) (Y := YX1_judge) 0 dX1_judge_16 rfl rfl) ?_
    refine im (go_iconst (pc := 17) (Y := YX1_judge) (v := 0) dX1_judge_17 rfl) ?_
    refine kdg (fun k6 => ?_)
    refine bdg (fun s7 v8 he9 => ?_)
    refine im (go_callV (pc := 18) (Y := YX1_judge) (Yc := YX1_wrongEnd) (y := yX1_wrongEnd) (n := 1) (c0 := 0) (q := (RX1, TX1, 25)) this [iV 0] [rV (some this)] rfl rfl k6 (mX1_wrongEnd s0 he9) YOK_X1_wrongEnd rfl q1390 q129 q1389 qs52 q1387 (Nat.le_of_ble_eq_true rfl) (Nat.le_of_ble_eq_true rfl) (Nat.le_of_ble_eq_true rfl) dX1_judge_18 (st2 := [iV v8, rV (some this)]) rfl) ?_
    clear he9
    refine kdg (fun k10 => ?_)
    refine bdg (fun s11 v12 he13 => ?_)
    refine im (go_callV (pc := 21) (Y := YX1_judge) (Yc := YX1_well) (y := yX1_well) (n := 1) (c0 := 0) (q := (RX1, TX1, 25)) this [iV v8] [] rfl rfl k10 (mX1_well s7 he13) YOK_X1_well rfl q1102 q129 q1101 qs29 q1099 (Nat.le_of_ble_eq_true rfl) (Nat.le_of_ble_eq_true rfl) (Nat.le_of_ble_eq_true rfl) dX1_judge_21 (st2 := [iV v12]) rfl) ?_
    clear he13
    refine e2 (fun q0 q1 => ?_)
    subst q0
    subst q1
    exact go_iret (pc := 24) (Y := YX1_judge) rfl dX1_judge_24
abbrev YX1_whyMinute : mY := (RX1, cX1_whyMinute, 3, (Option.some .int), 2, 46, false)
theorem YOK_X1_whyMinute : YOK yX1_whyMinute 2 := ⟨⟨by decide +kernel, by decide +kernel⟩, by decide +kernel⟩
theorem mX1_whyMinute {G : gG} (s0 : St) {this : Nat} {p0 : Int32} {p1 : Int32} {vE : Int32} (h : sX1_whyMinute s0 this p0 p1 = some vE) : Mt G YX1_whyMinute yX1_whyMinute [rV (some this), iV p0, iV p1] s0 (some (iV vE)) s0 := by
  refine go_start (ls0 := [(0, rV (some this)), (1, iV p0), (2, iV p1)]) (by decide +kernel) rfl (fun h => by cases h) (Nat.le_of_ble_eq_true rfl) rfl ?_
  revert h
  unfold sX1_whyMinute
  refine im (go_aload_n (pc := 0) (Y := YX1_whyMinute) 0 dX1_whyMinute_0 rfl rfl) ?_
  refine im (go_iload_n (pc := 1) (Y := YX1_whyMinute) 1 dX1_whyMinute_1 rfl rfl) ?_
  refine im (go_iload_n (pc := 2) (Y := YX1_whyMinute) 2 dX1_whyMinute_2 rfl rfl) ?_
  refine im (go_iconst (pc := 3) (Y := YX1_whyMinute) (v := 0) dX1_whyMinute_3 rfl) ?_
  refine im (go_bipush (pc := 4) (Y := YX1_whyMinute) (v := 59) dX1_whyMinute_4 rfl) ?_
  refine kdg (fun k1 => ?_)
  refine bpg (fun v2 he3 => ?_)
  refine im (go_callV (pc := 6) (Y := YX1_whyMinute) (Yc := YX1_why) (y := yX1_why) (n := 4) (c0 := 0) (q := (RX1, TX1, 25)) this [iV p0, iV p1, iV 0, iV 59] [] rfl rfl k1 (mX1_why s0 he3) YOK_X1_why rfl q1192 q129 q1191 qs37 q1189 (Nat.le_of_ble_eq_true rfl) (Nat.le_of_ble_eq_true rfl) (Nat.le_of_ble_eq_true rfl) dX1_whyMinute_6 (st2 := [iV v2]) rfl) ?_
  clear he3
  refine e1 (fun q0 => ?_)
  subst q0
  exact go_iret (pc := 9) (Y := YX1_whyMinute) rfl dX1_whyMinute_9
abbrev YX1_common : mY := (RX1, cX1_common, 10, (Option.some .long), 0, 0, false)
theorem YOK_X1_common : YOK yX1_common 2 := ⟨⟨by decide +kernel, by decide +kernel⟩, by decide +kernel⟩
theorem sX1_common_L6_go {G : gG} {s0 sE : St} {rE : Option V3} (s1 : St) : ∀ (n : Nat) (v2 : Int64) (v3 : Int64) (v4 : Int64), sX1_common_L6 n v2 v3 = some v4 → Go G YX1_common s0 sE rE 31 [(4, lV v4)] [] s1 → Go G YX1_common s0 sE rE 6 [(4, lV v2), (6, lV v3)] [] s1 := by
  intro n
  induction n with
  | zero => intro v2 v3 v4 h hx; rw [sX1_common_L6] at h; cases h
  | succ n ih =>
    intro v2 v3 v4 h hx
    revert h
    rw [sX1_common_L6]
    refine im (go_lload (pc := 6) (Y := YX1_common) 1 dX1_common_6 rfl) ?_
    refine im (go_lconst (pc := 8) (Y := YX1_common) (v := 0) dX1_common_8 rfl) ?_
    refine im (go_lcmp (pc := 9) (Y := YX1_common) dX1_common_9) ?_
    refine flp2 (go_if_eq (pc := 10) (Y := YX1_common) 31 dX1_common_10 (by decide)) ?_ ?_
    · refine e1 (fun q0 => ?_)
      subst q0
      exact go_sub [0] rfl hx
    · refine im (go_lload (pc := 13) (Y := YX1_common) 0 dX1_common_13 rfl) ?_
      refine im (go_lload (pc := 15) (Y := YX1_common) 1 dX1_common_15 rfl) ?_
      refine flp (go_lrem (pc := 17) (Y := YX1_common) dX1_common_17) (fun h => ?_)
      revert h
      refine im (go_lstore (pc := 18) (Y := YX1_common) (ls2 := [(8, lV (v2 - v2 / v3 * v3)), (4, lV v2), (6, lV v3)]) dX1_common_18 (Nat.le_of_ble_eq_true rfl) rfl) ?_
      refine im (go_lload (pc := 20) (Y := YX1_common) 2 dX1_common_20 rfl) ?_
      refine im (go_lstore (pc := 22) (Y := YX1_common) (ls2 := [(4, lV v3), (8, lV (v2 - v2 / v3 * v3)), (6, lV v3)]) dX1_common_22 (Nat.le_of_ble_eq_true rfl) rfl) ?_
      refine im (go_lload (pc := 24) (Y := YX1_common) 1 dX1_common_24 rfl) ?_
      refine im (go_lstore (pc := 26) (Y := YX1_common) (ls2 := [(6, lV (v2 - v2 / v3 * v3)), (4, lV v3), (8, lV (v2 - v2 / v3 * v3))]) dX1_common_26 (Nat.le_of_ble_eq_true rfl) rfl) ?_
      refine im (go_goto (pc := 28) (Y := YX1_common) 6 dX1_common_28 (by decide)) ?_
      exact fun hq => go_sub [1, 0] rfl (ih _ _ _ hq hx)
theorem mX1_common {G : gG} (s0 : St) {p0 : Int64} {p1 : Int64} {vE : Int64} (h : sX1_common s0 p0 p1 = some vE) : Mt G YX1_common yX1_common [lV p0, lV p1] s0 (some (lV vE)) s0 := by
  refine go_start (ls0 := [(0, lV p0), (2, lV p1)]) (by decide +kernel) rfl (fun h => by cases h) (Nat.le_of_ble_eq_true rfl) rfl ?_
  revert h
  unfold sX1_common
  refine im (go_lload_n (pc := 0) (Y := YX1_common) 0 dX1_common_0 rfl rfl) ?_
  refine im (go_lstore (pc := 1) (Y := YX1_common) (ls2 := [(4, lV p0), (0, lV p0), (2, lV p1)]) dX1_common_1 (Nat.le_of_ble_eq_true rfl) rfl) ?_
  refine im (go_lload_n (pc := 3) (Y := YX1_common) 2 dX1_common_3 rfl rfl) ?_
  refine im (go_lstore (pc := 4) (Y := YX1_common) (ls2 := [(6, lV p1), (4, lV p0), (0, lV p0), (2, lV p1)]) dX1_common_4 (Nat.le_of_ble_eq_true rfl) rfl) ?_
  refine bpg (fun v5 he6 h7 => ?_)
  refine go_sub [1, 0] rfl (sX1_common_L6_go s0 FU _ _ _ he6 ?_)
  clear he6
  revert h7
  refine im (go_lload (pc := 31) (Y := YX1_common) 0 dX1_common_31 rfl) ?_
  refine e1 (fun q0 => ?_)
  subst q0
  exact go_lret (pc := 33) (Y := YX1_common) rfl dX1_common_33
abbrev YX1_fraction : mY := (RX1, cX1_fraction, 6, (Option.some .long), 1, 29, false)
theorem YOK_X1_fraction : YOK yX1_fraction 3 := ⟨⟨by decide +kernel, by decide +kernel⟩, by decide +kernel⟩
theorem mX1_fraction {G : gG} (s0 : St) {this : Nat} {p0 : Int64} {p1 : Int64} {p2 : Int32} {sE : St} {vE : Int64} (h : sX1_fraction s0 this p0 p1 p2 = some (sE, vE)) : Mt G YX1_fraction yX1_fraction [rV (some this), lV p0, lV p1, iV p2] s0 (some (lV vE)) sE := by
  refine go_start (ls0 := [(0, rV (some this)), (1, lV p0), (3, lV p1), (5, iV p2)]) (by decide +kernel) rfl (fun h => by cases h) (Nat.le_of_ble_eq_true rfl) rfl ?_
  revert h
  unfold sX1_fraction
  refine im (go_aload_n (pc := 0) (Y := YX1_fraction) 0 dX1_fraction_0 rfl rfl) ?_
  refine im (go_iconst (pc := 1) (Y := YX1_fraction) (v := 0) dX1_fraction_1 rfl) ?_
  refine kdg (fun k1 => ?_)
  refine bdg (fun s2 v3 he4 => ?_)
  refine im (go_callV (pc := 2) (Y := YX1_fraction) (Yc := YX1_well) (y := yX1_well) (n := 1) (c0 := 0) (q := (RX1, TX1, 25)) this [iV 0] [] rfl rfl k1 (mX1_well s0 he4) YOK_X1_well rfl q1102 q129 q1101 qs29 q1099 (Nat.le_of_ble_eq_true rfl) (Nat.le_of_ble_eq_true rfl) (Nat.le_of_ble_eq_true rfl) dX1_fraction_2 (st2 := [iV v3]) rfl) ?_
  clear he4
  refine im (go_pop (pc := 5) (Y := YX1_fraction) dX1_fraction_5 rfl) ?_
  refine im (go_iload (pc := 6) (Y := YX1_fraction) 3 dX1_fraction_6 rfl) ?_
  refine bpg (fun v5 he8 h9 => ?_)
  have hj16 : Go G YX1_fraction s0 sE (some (lV vE)) 16 [(1, lV p0), (3, lV p1)] [lV v5] s2 := by
    clear he8
    revert h9
    refine im (go_lload_n (pc := 16) (Y := YX1_fraction) 0 dX1_fraction_16 rfl rfl) ?_
    refine im (go_lload_n (pc := 17) (Y := YX1_fraction) 1 dX1_fraction_17 rfl rfl) ?_
    refine bpg (fun v6 he7 => ?_)
    refine im (go_callS (pc := 18) (Y := YX1_fraction) (Yc := YX1_common) (y := yX1_common) (n := 2) [lV p0, lV p1] [lV v5] rfl (mX1_common s2 he7) YOK_X1_common rfl q1434 q129 q1433 q1432 (Nat.le_of_ble_eq_true rfl) (Nat.le_of_ble_eq_true rfl) (Nat.le_of_ble_eq_true rfl) dX1_fraction_18 (st2 := [lV v6, lV v5]) rfl) ?_
    clear he7
    refine flp (go_ldiv (pc := 21) (Y := YX1_fraction) dX1_fraction_21) (fun h => ?_)
    revert h
    refine e2 (fun q0 q1 => ?_)
    subst q0
    subst q1
    exact go_lret (pc := 22) (Y := YX1_fraction) rfl dX1_fraction_22
  clear h9
  revert he8
  refine flp2 (go_if_eq (pc := 8) (Y := YX1_fraction) 15 dX1_fraction_8 (by decide)) ?_ ?_
  · refine im (go_lload_n (pc := 15) (Y := YX1_fraction) 1 dX1_fraction_15 rfl rfl) ?_
    refine e1 (fun q0 => ?_)
    subst q0
    exact go_sub [1, 2] rfl hj16
  · refine im (go_lload_n (pc := 11) (Y := YX1_fraction) 2 dX1_fraction_11 rfl rfl) ?_
    refine im (go_goto (pc := 12) (Y := YX1_fraction) 16 dX1_fraction_12 (by decide)) ?_
    refine e1 (fun q0 => ?_)
    subst q0
    exact go_sub [1, 2] rfl hj16
abbrev YX1_swings : mY := (RX1, cX1_swings, 10, (Option.some .long), 6, 132, false)
theorem YOK_X1_swings : YOK yX1_swings 4 := ⟨⟨by decide +kernel, by decide +kernel⟩, by decide +kernel⟩
theorem sX1_swings_L86_go {G : gG} {s0 sE : St} {rE : Option V3} (s20 : St) (this : Nat) (i1 : Int32) (i4 : Int32) (i7 : Int32) : ∀ (n : Nat) (v21 : Int32) (v22 : Int32) (v23 : Int32), sX1_swings_L86 s20 this i1 i7 n v21 v22 = some v23 → Go G YX1_swings s0 sE rE 145 [(0, rV (some this)), (4, iV i4), (7, iV i7), (8, iV v23)] [] s20 → Go G YX1_swings s0 sE rE 86 [(0, rV (some this)), (1, iV i1), (4, iV i4), (7, iV i7), (8, iV v21), (9, iV v22)] [] s20 := by
  intro n
  induction n with
  | zero => intro v21 v22 v23 h hx; rw [sX1_swings_L86] at h; cases h
  | succ n ih =>
    intro v21 v22 v23 h hx
    revert h
    rw [sX1_swings_L86]
    refine im (go_iload (pc := 86) (Y := YX1_swings) 5 dX1_swings_86 rfl) ?_
    refine im (go_iload (pc := 88) (Y := YX1_swings) 3 dX1_swings_88 rfl) ?_
    refine flp2 (go_icmp_gt (pc := 90) (Y := YX1_swings) 145 dX1_swings_90 (by decide)) ?_ ?_
    · refine e1 (fun q0 => ?_)
      subst q0
      exact go_sub [0, 2, 3, 4] rfl hx
    · refine im (go_iload (pc := 93) (Y := YX1_swings) 4 dX1_swings_93 rfl) ?_
      refine im (go_iload (pc := 95) (Y := YX1_swings) 5 dX1_swings_95 rfl) ?_
      refine im (go_iload (pc := 97) (Y := YX1_swings) 3 dX1_swings_97 rfl) ?_
      refine im (go_iconst (pc := 99) (Y := YX1_swings) (v := -1) dX1_swings_99 rfl) ?_
      refine im (go_ixor (pc := 100) (Y := YX1_swings) dX1_swings_100) ?_
      refine im (go_iand (pc := 101) (Y := YX1_swings) dX1_swings_101) ?_
      refine bpg (fun v24 he31 h32 => ?_)
      have hj136 : Go G YX1_swings s0 sE rE 136 [(0, rV (some this)), (1, iV i1), (4, iV i4), (7, iV i7), (9, iV v22)] [iV v24, iV v21] s20 := by
        clear he31
        revert h32
        refine im (go_iadd (pc := 136) (Y := YX1_swings) dX1_swings_136) ?_
        refine im (go_istore (pc := 137) (Y := YX1_swings) (ls2 := [(8, iV (v21 + v24)), (0, rV (some this)), (1, iV i1), (4, iV i4), (7, iV i7), (9, iV v22)]) dX1_swings_137 (Nat.le_of_ble_eq_true rfl) rfl) ?_
        refine im (go_iinc (pc := 139) (Y := YX1_swings) 5 (v := (v22 + 1)) (ls2 := [(9, iV (v22 + 1)), (8, iV (v21 + v24)), (0, rV (some this)), (1, iV i1), (4, iV i4), (7, iV i7)]) dX1_swings_139 rfl rfl (Nat.le_of_ble_eq_true rfl) rfl) ?_
        refine im (go_goto (pc := 142) (Y := YX1_swings) 86 dX1_swings_142 (by decide)) ?_
        exact fun hq => go_sub [2, 3, 4, 5, 1, 0] rfl (ih _ _ _ hq hx)
      clear h32
      revert he31
      refine flp2 (go_if_ne (pc := 102) (Y := YX1_swings) 135 dX1_swings_102 (by decide)) ?_ ?_
      · refine im (go_aload_n (pc := 105) (Y := YX1_swings) 0 dX1_swings_105 rfl rfl) ?_
        refine im (go_iload (pc := 106) (Y := YX1_swings) 5 dX1_swings_106 rfl) ?_
        refine kdg (fun k25 => ?_)
        refine bpg (fun v26 he27 => ?_)
        refine im (go_callV (pc := 108) (Y := YX1_swings) (Yc := YX1_eyesOfAll) (y := yX1_eyesOfAll) (n := 1) (c0 := 0) (q := (RX1, TX1, 25)) this [iV v22] [iV v21] rfl rfl k25 (mX1_eyesOfAll s20 he27) YOK_X1_eyesOfAll rfl q1242 q129 q1241 qs39 q1239 (Nat.le_of_ble_eq_true rfl) (Nat.le_of_ble_eq_true rfl) (Nat.le_of_ble_eq_true rfl) dX1_swings_108 (st2 := [iV v26, iV v21]) rfl) ?_
        clear he27
        refine im (go_bipush (pc := 111) (Y := YX1_swings) (v := 6) dX1_swings_111 rfl) ?_
        refine flp2 (go_icmp_ge (pc := 113) (Y := YX1_swings) 135 dX1_swings_113 (by decide)) ?_ ?_
        · refine im (go_iconst (pc := 135) (Y := YX1_swings) (v := 0) dX1_swings_135 rfl) ?_
          refine e1 (fun q0 => ?_)
          subst q0
          exact go_sub [0, 1, 2, 3, 5] rfl hj136
        · refine im (go_aload_n (pc := 116) (Y := YX1_swings) 0 dX1_swings_116 rfl rfl) ?_
          refine im (go_iload (pc := 117) (Y := YX1_swings) 5 dX1_swings_117 rfl) ?_
          refine im (go_iconst (pc := 119) (Y := YX1_swings) (v := 1) dX1_swings_119 rfl) ?_
          refine im (go_iload_n (pc := 120) (Y := YX1_swings) 1 dX1_swings_120 rfl rfl) ?_
          refine im (go_ishl (pc := 121) (Y := YX1_swings) dX1_swings_121) ?_
          refine im (go_ior (pc := 122) (Y := YX1_swings) dX1_swings_122) ?_
          refine kdg (fun k28 => ?_)
          refine bpg (fun v29 he30 => ?_)
          refine im (go_callV (pc := 123) (Y := YX1_swings) (Yc := YX1_eyesOfAll) (y := yX1_eyesOfAll) (n := 1) (c0 := 0) (q := (RX1, TX1, 25)) this [iV (v22 ||| ((1 : Int32) <<< (i1 &&& 31)))] [iV v21] rfl rfl k28 (mX1_eyesOfAll s20 he30) YOK_X1_eyesOfAll rfl q1242 q129 q1241 qs39 q1239 (Nat.le_of_ble_eq_true rfl) (Nat.le_of_ble_eq_true rfl) (Nat.le_of_ble_eq_true rfl) dX1_swings_123 (st2 := [iV v29, iV v21]) rfl) ?_
          clear he30
          refine im (go_bipush (pc := 126) (Y := YX1_swings) (v := 6) dX1_swings_126 rfl) ?_
          refine flp2 (go_icmp_lt (pc := 128) (Y := YX1_swings) 135 dX1_swings_128 (by decide)) ?_ ?_
          · refine im (go_iconst (pc := 135) (Y := YX1_swings) (v := 0) dX1_swings_135 rfl) ?_
            refine e1 (fun q0 => ?_)
            subst q0
            exact go_sub [0, 1, 2, 3, 5] rfl hj136
          · refine im (go_iconst (pc := 131) (Y := YX1_swings) (v := 1) dX1_swings_131 rfl) ?_
            refine im (go_goto (pc := 132) (Y := YX1_swings) 136 dX1_swings_132 (by decide)) ?_
            refine e1 (fun q0 => ?_)
            subst q0
            exact go_sub [0, 1, 2, 3, 5] rfl hj136
      · refine im (go_iconst (pc := 135) (Y := YX1_swings) (v := 0) dX1_swings_135 rfl) ?_
        refine e1 (fun q0 => ?_)
        subst q0
        exact go_sub [0, 1, 2, 3, 5] rfl hj136
theorem mX1_swings {G : gG} (s0 : St) {this : Nat} {p0 : Int32} {p1 : Int32} {p2 : Int32} {p3 : Int32} {sE : St} {vE : Int64} (h : sX1_swings s0 this p0 p1 p2 p3 = some (sE, vE)) : Mt G YX1_swings yX1_swings [rV (some this), iV p0, iV p1, iV p2, iV p3] s0 (some (lV vE)) sE := by
  refine go_start (ls0 := [(0, rV (some this)), (1, iV p0), (2, iV p1), (3, iV p2), (4, iV p3)]) (by decide +kernel) rfl (fun h => by cases h) (Nat.le_of_ble_eq_true rfl) rfl ?_
  revert h
  unfold sX1_swings
  refine im (go_aload_n (pc := 0) (Y := YX1_swings) 0 dX1_swings_0 rfl rfl) ?_
  refine im (go_aload_n (pc := 1) (Y := YX1_swings) 0 dX1_swings_1 rfl rfl) ?_
  refine im (go_iload_n (pc := 2) (Y := YX1_swings) 1 dX1_swings_2 rfl rfl) ?_
  refine kdg (fun k1 => ?_)
  refine bpg (fun v2 he3 => ?_)
  refine im (go_callV (pc := 3) (Y := YX1_swings) (Yc := YX1_isPerson) (y := yX1_isPerson) (n := 1) (c0 := 0) (q := (RX1, TX1, 25)) this [iV p0] [rV (some this)] rfl rfl k1 (mX1_isPerson s0 he3) YOK_X1_isPerson rfl q1118 q129 q1117 qs30 q1115 (Nat.le_of_ble_eq_true rfl) (Nat.le_of_ble_eq_true rfl) (Nat.le_of_ble_eq_true rfl) dX1_swings_3 (st2 := [iV v2, rV (some this)]) rfl) ?_
  clear he3
  refine bpg (fun v4 he49 h50 => ?_)
  have hj22 : Go G YX1_swings s0 sE (some (lV vE)) 22 [(0, rV (some this)), (1, iV p0), (2, iV p1), (3, iV p2), (4, iV p3)] [iV v4, rV (some this)] s0 := by
    clear he49
    revert h50
    refine im (go_iload_n (pc := 22) (Y := YX1_swings) 3 dX1_swings_22 rfl rfl) ?_
    refine kdg (fun k5 => ?_)
    refine bpg (fun v6 he7 => ?_)
    refine im (go_callV (pc := 23) (Y := YX1_swings) (Yc := YX1_whyMinute) (y := yX1_whyMinute) (n := 2) (c0 := 0) (q := (RX1, TX1, 25)) this [iV v4, iV p2] [] rfl rfl k5 (mX1_whyMinute s0 he7) YOK_X1_whyMinute rfl q1427 q129 q1426 qs54 q1424 (Nat.le_of_ble_eq_true rfl) (Nat.le_of_ble_eq_true rfl) (Nat.le_of_ble_eq_true rfl) dX1_swings_23 (st2 := [iV v6]) rfl) ?_
    clear he7
    refine im (go_istore (pc := 26) (Y := YX1_swings) (ls2 := [(5, iV v6), (0, rV (some this)), (1, iV p0), (2, iV p1), (3, iV p2), (4, iV p3)]) dX1_swings_26 (Nat.le_of_ble_eq_true rfl) rfl) ?_
    refine im (go_iload (pc := 28) (Y := YX1_swings) 0 dX1_swings_28 rfl) ?_
    refine flp2 (go_if_le (pc := 30) (Y := YX1_swings) 41 dX1_swings_30 (by decide)) ?_ ?_
    · refine im (go_aload_n (pc := 41) (Y := YX1_swings) 1 dX1_swings_41 rfl rfl) ?_
      refine flp (go_gR (pc := 42) (Y := YX1_swings) fF1002 (by decide) q202 (Or.inl rfl) dX1_swings_42) (fun v8 => ?_)
      refine im (go_iload_n (pc := 45) (Y := YX1_swings) 3 dX1_swings_45 rfl rfl) ?_
      refine im (go_iload_n (pc := 46) (Y := YX1_swings) 4 dX1_swings_46 rfl rfl) ?_
      refine ivg (fun w9 r10 k11 => ?_)
      refine bpg (fun v12 he13 => ?_)
      refine im (go_callV (pc := 47) (Y := YX1_swings) (Yc := YX14_watchers) (y := yX14_watchers) (n := 2) (c0 := 16) (q := (RX14, TX14, 4)) w9 [iV p1, iV p2] [] (by rw [r10]; rfl) rfl k11 (mX14_watchers s0 he13) YOK_X14_watchers rfl q1229 q156 q1227 q1228 q1226 (Nat.le_of_ble_eq_true rfl) (Nat.le_of_ble_eq_true rfl) (Nat.le_of_ble_eq_true rfl) dX1_swings_47 (st2 := [iV v12]) rfl) ?_
      clear he13
      refine im (go_istore (pc := 50) (Y := YX1_swings) (ls2 := [(6, iV v12), (5, iV v6), (0, rV (some this)), (1, iV p0), (2, iV p1), (3, iV p2), (4, iV p3)]) dX1_swings_50 (Nat.le_of_ble_eq_true rfl) rfl) ?_
      refine im (go_iload (pc := 52) (Y := YX1_swings) 0 dX1_swings_52 rfl) ?_
      refine im (go_iload_n (pc := 54) (Y := YX1_swings) 3 dX1_swings_54 rfl rfl) ?_
      refine bpg (fun v14 he15 => ?_)
      refine im (go_callS (pc := 55) (Y := YX1_swings) (Yc := YX1_has) (y := yX1_has) (n := 2) [iV v12, iV p0] [] rfl (mX1_has s0 he15) YOK_X1_has rfl q1176 q129 q1175 q1174 (Nat.le_of_ble_eq_true rfl) (Nat.le_of_ble_eq_true rfl) (Nat.le_of_ble_eq_true rfl) dX1_swings_55 (st2 := [iV v14]) rfl) ?_
      clear he15
      refine flp2 (go_if_ne (pc := 58) (Y := YX1_swings) 70 dX1_swings_58 (by decide)) ?_ ?_
      · refine im (go_aload_n (pc := 61) (Y := YX1_swings) 2 dX1_swings_61 rfl rfl) ?_
        refine im (go_lconst (pc := 62) (Y := YX1_swings) (v := 0) dX1_swings_62 rfl) ?_
        refine im (go_lconst (pc := 63) (Y := YX1_swings) (v := 1) dX1_swings_63 rfl) ?_
        refine im (go_iload (pc := 64) (Y := YX1_swings) 6 dX1_swings_64 rfl) ?_
        refine kdg (fun k16 => ?_)
        refine bdg (fun s17 v18 he19 => ?_)
        refine im (go_callV (pc := 66) (Y := YX1_swings) (Yc := YX1_fraction) (y := yX1_fraction) (n := 3) (c0 := 0) (q := (RX1, TX1, 25)) this [lV 0, lV 1, iV p3] [] rfl rfl k16 (mX1_fraction s0 he19) YOK_X1_fraction rfl q1431 q129 q1430 qs55 q1428 (Nat.le_of_ble_eq_true rfl) (Nat.le_of_ble_eq_true rfl) (Nat.le_of_ble_eq_true rfl) dX1_swings_66 (st2 := [lV v18]) rfl) ?_
        clear he19
        refine e2 (fun q0 q1 => ?_)
        subst q0
        subst q1
        exact go_lret (pc := 69) (Y := YX1_swings) rfl dX1_swings_69
      · refine im (go_iload (pc := 70) (Y := YX1_swings) 0 dX1_swings_70 rfl) ?_
        refine im (go_iconst (pc := 72) (Y := YX1_swings) (v := 1) dX1_swings_72 rfl) ?_
        refine im (go_iload_n (pc := 73) (Y := YX1_swings) 3 dX1_swings_73 rfl rfl) ?_
        refine im (go_ishl (pc := 74) (Y := YX1_swings) dX1_swings_74) ?_
        refine im (go_iconst (pc := 75) (Y := YX1_swings) (v := -1) dX1_swings_75 rfl) ?_
        refine im (go_ixor (pc := 76) (Y := YX1_swings) dX1_swings_76) ?_
        refine im (go_iand (pc := 77) (Y := YX1_swings) dX1_swings_77) ?_
        refine im (go_istore (pc := 78) (Y := YX1_swings) (ls2 := [(7, iV (v12 &&& (((1 : Int32) <<< (p0 &&& 31)) ^^^ (-1)))), (6, iV v12), (5, iV v6), (0, rV (some this)), (1, iV p0), (2, iV p1), (3, iV p2), (4, iV p3)]) dX1_swings_78 (Nat.le_of_ble_eq_true rfl) rfl) ?_
        refine im (go_iconst (pc := 80) (Y := YX1_swings) (v := 0) dX1_swings_80 rfl) ?_
        refine im (go_istore (pc := 81) (Y := YX1_swings) (ls2 := [(8, iV 0), (7, iV (v12 &&& (((1 : Int32) <<< (p0 &&& 31)) ^^^ (-1)))), (6, iV v12), (5, iV v6), (0, rV (some this)), (1, iV p0), (2, iV p1), (3, iV p2), (4, iV p3)]) dX1_swings_81 (Nat.le_of_ble_eq_true rfl) rfl) ?_
        refine im (go_iconst (pc := 83) (Y := YX1_swings) (v := 0) dX1_swings_83 rfl) ?_
        refine im (go_istore (pc := 84) (Y := YX1_swings) (ls2 := [(9, iV 0), (8, iV 0), (7, iV (v12 &&& (((1 : Int32) <<< (p0 &&& 31)) ^^^ (-1)))), (6, iV v12), (5, iV v6), (0, rV (some this)), (1, iV p0), (2, iV p1), (3, iV p2), (4, iV p3)]) dX1_swings_84 (Nat.le_of_ble_eq_true rfl) rfl) ?_
        refine bpg (fun v33 he40 h41 => ?_)
        refine go_sub [5, 6, 9, 2, 1, 0] rfl (sX1_swings_L86_go s0 this p0 p3 (v12 &&& (((1 : Int32) <<< (p0 &&& 31)) ^^^ (-1))) FU _ _ _ he40 ?_)
        clear he40
        revert h41
        refine im (go_aload_n (pc := 145) (Y := YX1_swings) 0 dX1_swings_145 rfl rfl) ?_
        refine im (go_iload (pc := 146) (Y := YX1_swings) 3 dX1_swings_146 rfl) ?_
        refine im (go_i2l (pc := 148) (Y := YX1_swings) dX1_swings_148) ?_
        refine im (go_lconst (pc := 149) (Y := YX1_swings) (v := 1) dX1_swings_149 rfl) ?_
        refine im (go_iload (pc := 150) (Y := YX1_swings) 2 dX1_swings_150 rfl) ?_
        refine bpg (fun v34 he35 => ?_)
        refine im (go_callS (pc := 152) (Y := YX1_swings) (Yc := YX1_bits) (y := yX1_bits) (n := 1) [iV (v12 &&& (((1 : Int32) <<< (p0 &&& 31)) ^^^ (-1)))] [lV 1, lV (Int32.toInt64 v33), rV (some this)] rfl (mX1_bits s0 he35) YOK_X1_bits rfl q1314 q129 q1313 q1312 (Nat.le_of_ble_eq_true rfl) (Nat.le_of_ble_eq_true rfl) (Nat.le_of_ble_eq_true rfl) dX1_swings_152 (st2 := [iV v34, lV 1, lV (Int32.toInt64 v33), rV (some this)]) rfl) ?_
        clear he35
        refine im (go_lshl (pc := 155) (Y := YX1_swings) dX1_swings_155) ?_
        refine im (go_iload (pc := 156) (Y := YX1_swings) 1 dX1_swings_156 rfl) ?_
        refine kdg (fun k36 => ?_)
        refine bdg (fun s37 v38 he39 => ?_)
        refine im (go_callV (pc := 158) (Y := YX1_swings) (Yc := YX1_fraction) (y := yX1_fraction) (n := 3) (c0 := 0) (q := (RX1, TX1, 25)) this [lV (Int32.toInt64 v33), lV (1 <<< (Int32.toInt64 v34 &&& 63)), iV p3] [] rfl rfl k36 (mX1_fraction s0 he39) YOK_X1_fraction rfl q1431 q129 q1430 qs55 q1428 (Nat.le_of_ble_eq_true rfl) (Nat.le_of_ble_eq_true rfl) (Nat.le_of_ble_eq_true rfl) dX1_swings_158 (st2 := [lV v38]) rfl) ?_
        clear he39
        refine e2 (fun q0 q1 => ?_)
        subst q0
        subst q1
        exact go_lret (pc := 161) (Y := YX1_swings) rfl dX1_swings_161
    · refine im (go_aload_n (pc := 33) (Y := YX1_swings) 1 dX1_swings_33 rfl rfl) ?_
      refine im (go_iload (pc := 34) (Y := YX1_swings) 0 dX1_swings_34 rfl) ?_
      refine kdg (fun k42 => ?_)
      refine bdg (fun s43 v44 he45 => ?_)
      refine im (go_callV (pc := 36) (Y := YX1_swings) (Yc := YX1_refused) (y := yX1_refused) (n := 1) (c0 := 0) (q := (RX1, TX1, 25)) this [iV v6] [] rfl rfl k42 (mX1_refused s0 he45) YOK_X1_refused rfl q288 q129 q287 qs0 q285 (Nat.le_of_ble_eq_true rfl) (Nat.le_of_ble_eq_true rfl) (Nat.le_of_ble_eq_true rfl) dX1_swings_36 (st2 := [iV v44]) rfl) ?_
      clear he45
      refine im (go_i2l (pc := 39) (Y := YX1_swings) dX1_swings_39) ?_
      refine e2 (fun q0 q1 => ?_)
      subst q0
      subst q1
      exact go_lret (pc := 40) (Y := YX1_swings) rfl dX1_swings_40
  clear h50
  revert he49
  refine flp2 (go_if_eq (pc := 6) (Y := YX1_swings) 21 dX1_swings_6 (by decide)) ?_ ?_
  · refine im (go_iconst (pc := 21) (Y := YX1_swings) (v := 0) dX1_swings_21 rfl) ?_
    refine e1 (fun q0 => ?_)
    subst q0
    exact go_sub [0, 1, 2, 3, 4] rfl hj22
  · refine im (go_aload_n (pc := 9) (Y := YX1_swings) 0 dX1_swings_9 rfl rfl) ?_
    refine im (go_iload_n (pc := 10) (Y := YX1_swings) 2 dX1_swings_10 rfl rfl) ?_
    refine kdg (fun k46 => ?_)
    refine bpg (fun v47 he48 => ?_)
    refine im (go_callV (pc := 11) (Y := YX1_swings) (Yc := YX1_isPlace) (y := yX1_isPlace) (n := 1) (c0 := 0) (q := (RX1, TX1, 25)) this [iV p1] [rV (some this)] rfl rfl k46 (mX1_isPlace s0 he48) YOK_X1_isPlace rfl q1213 q129 q1212 qs38 q1210 (Nat.le_of_ble_eq_true rfl) (Nat.le_of_ble_eq_true rfl) (Nat.le_of_ble_eq_true rfl) dX1_swings_11 (st2 := [iV v47, rV (some this)]) rfl) ?_
    clear he48
    refine flp2 (go_if_eq (pc := 14) (Y := YX1_swings) 21 dX1_swings_14 (by decide)) ?_ ?_
    · refine im (go_iconst (pc := 21) (Y := YX1_swings) (v := 0) dX1_swings_21 rfl) ?_
      refine e1 (fun q0 => ?_)
      subst q0
      exact go_sub [0, 1, 2, 3, 4] rfl hj22
    · refine im (go_iconst (pc := 17) (Y := YX1_swings) (v := 1) dX1_swings_17 rfl) ?_
      refine im (go_goto (pc := 18) (Y := YX1_swings) 22 dX1_swings_18 (by decide)) ?_
      refine e1 (fun q0 => ?_)
      subst q0
      exact go_sub [0, 1, 2, 3, 4] rfl hj22
abbrev YX1_three : mY := (RX1, cX1_three, 7, (Option.some .int), 6, 132, false)
theorem YOK_X1_three : YOK yX1_three 2 := ⟨⟨by decide +kernel, by decide +kernel⟩, by decide +kernel⟩
theorem sX1_three_L39_go {G : gG} {s0 sE : St} {rE : Option V3} (s13 : St) (this : Nat) (i4 : Int32) : ∀ (n : Nat) (v14 : Int32) (v15 : Int32) (v16 : Int32), sX1_three_L39 s13 this i4 n v14 v15 = some v16 → Go G YX1_three s0 sE rE 97 [(0, rV (some this)), (5, iV v16)] [] s13 → Go G YX1_three s0 sE rE 39 [(0, rV (some this)), (4, iV i4), (5, iV v14), (6, iV v15)] [] s13 := by
  intro n
  induction n with
  | zero => intro v14 v15 v16 h hx; rw [sX1_three_L39] at h; cases h
  | succ n ih =>
    intro v14 v15 v16 h hx
    revert h
    rw [sX1_three_L39]
    refine im (go_iload (pc := 39) (Y := YX1_three) 3 dX1_three_39 rfl) ?_
    refine im (go_iload (pc := 41) (Y := YX1_three) 1 dX1_three_41 rfl) ?_
    refine flp2 (go_icmp_gt (pc := 43) (Y := YX1_three) 97 dX1_three_43 (by decide)) ?_ ?_
    · refine e1 (fun q0 => ?_)
      subst q0
      exact go_sub [0, 2] rfl hx
    · refine im (go_iload (pc := 46) (Y := YX1_three) 3 dX1_three_46 rfl) ?_
      refine im (go_iload (pc := 48) (Y := YX1_three) 1 dX1_three_48 rfl) ?_
      refine im (go_iconst (pc := 50) (Y := YX1_three) (v := -1) dX1_three_50 rfl) ?_
      refine im (go_ixor (pc := 51) (Y := YX1_three) dX1_three_51) ?_
      refine im (go_iand (pc := 52) (Y := YX1_three) dX1_three_52) ?_
      refine bpg (fun v17 he25 h26 => ?_)
      have hj91 : Go G YX1_three s0 sE rE 91 [(0, rV (some this)), (4, iV i4), (5, iV v17), (6, iV v15)] [] s13 := by
        clear he25
        revert h26
        refine im (go_iinc (pc := 91) (Y := YX1_three) 3 (v := (v15 + 1)) (ls2 := [(6, iV (v15 + 1)), (0, rV (some this)), (4, iV i4), (5, iV v17)]) dX1_three_91 rfl rfl (Nat.le_of_ble_eq_true rfl) rfl) ?_
        refine im (go_goto (pc := 94) (Y := YX1_three) 39 dX1_three_94 (by decide)) ?_
        exact fun hq => go_sub [1, 2, 3, 0] rfl (ih _ _ _ hq hx)
      clear h26
      revert he25
      refine flp2 (go_if_ne (pc := 53) (Y := YX1_three) 91 dX1_three_53 (by decide)) ?_ ?_
      · refine im (go_aload_n (pc := 56) (Y := YX1_three) 0 dX1_three_56 rfl rfl) ?_
        refine im (go_iload (pc := 57) (Y := YX1_three) 3 dX1_three_57 rfl) ?_
        refine kdg (fun k18 => ?_)
        refine bpg (fun v19 he20 => ?_)
        refine im (go_callV (pc := 59) (Y := YX1_three) (Yc := YX1_eyesOfAll) (y := yX1_eyesOfAll) (n := 1) (c0 := 0) (q := (RX1, TX1, 25)) this [iV v15] [] rfl rfl k18 (mX1_eyesOfAll s13 he20) YOK_X1_eyesOfAll rfl q1242 q129 q1241 qs39 q1239 (Nat.le_of_ble_eq_true rfl) (Nat.le_of_ble_eq_true rfl) (Nat.le_of_ble_eq_true rfl) dX1_three_59 (st2 := [iV v19]) rfl) ?_
        clear he20
        refine im (go_bipush (pc := 62) (Y := YX1_three) (v := 6) dX1_three_62 rfl) ?_
        refine flp2 (go_icmp_lt (pc := 64) (Y := YX1_three) 91 dX1_three_64 (by decide)) ?_ ?_
        · refine e1 (fun q0 => ?_)
          subst q0
          exact go_sub [0, 1, 2, 3] rfl hj91
        · refine im (go_iload (pc := 67) (Y := YX1_three) 2 dX1_three_67 rfl) ?_
          refine im (go_bipush (pc := 69) (Y := YX1_three) (v := -2) dX1_three_69 rfl) ?_
          refine flp2 (go_icmp_eq (pc := 71) (Y := YX1_three) 87 dX1_three_71 (by decide)) ?_ ?_
          · refine im (go_iload (pc := 87) (Y := YX1_three) 3 dX1_three_87 rfl) ?_
            refine im (go_istore (pc := 89) (Y := YX1_three) (ls2 := [(5, iV v15), (0, rV (some this)), (4, iV i4), (6, iV v15)]) dX1_three_89 (Nat.le_of_ble_eq_true rfl) rfl) ?_
            refine e1 (fun q0 => ?_)
            subst q0
            exact go_sub [1, 2, 0, 3] rfl hj91
          · refine im (go_iload (pc := 74) (Y := YX1_three) 3 dX1_three_74 rfl) ?_
            refine bpg (fun v21 he22 => ?_)
            refine im (go_callS (pc := 76) (Y := YX1_three) (Yc := YX1_bits) (y := yX1_bits) (n := 1) [iV v15] [] rfl (mX1_bits s13 he22) YOK_X1_bits rfl q1314 q129 q1313 q1312 (Nat.le_of_ble_eq_true rfl) (Nat.le_of_ble_eq_true rfl) (Nat.le_of_ble_eq_true rfl) dX1_three_76 (st2 := [iV v21]) rfl) ?_
            clear he22
            refine im (go_iload (pc := 79) (Y := YX1_three) 2 dX1_three_79 rfl) ?_
            refine bpg (fun v23 he24 => ?_)
            refine im (go_callS (pc := 81) (Y := YX1_three) (Yc := YX1_bits) (y := yX1_bits) (n := 1) [iV v14] [iV v21] rfl (mX1_bits s13 he24) YOK_X1_bits rfl q1314 q129 q1313 q1312 (Nat.le_of_ble_eq_true rfl) (Nat.le_of_ble_eq_true rfl) (Nat.le_of_ble_eq_true rfl) dX1_three_81 (st2 := [iV v23, iV v21]) rfl) ?_
            clear he24
            refine flp2 (go_icmp_ge (pc := 84) (Y := YX1_three) 91 dX1_three_84 (by decide)) ?_ ?_
            · refine e1 (fun q0 => ?_)
              subst q0
              exact go_sub [0, 1, 2, 3] rfl hj91
            · refine im (go_iload (pc := 87) (Y := YX1_three) 3 dX1_three_87 rfl) ?_
              refine im (go_istore (pc := 89) (Y := YX1_three) (ls2 := [(5, iV v15), (0, rV (some this)), (4, iV i4), (6, iV v15)]) dX1_three_89 (Nat.le_of_ble_eq_true rfl) rfl) ?_
              refine e1 (fun q0 => ?_)
              subst q0
              exact go_sub [1, 2, 0, 3] rfl hj91
      · refine e1 (fun q0 => ?_)
        subst q0
        exact go_sub [0, 1, 2, 3] rfl hj91
theorem mX1_three {G : gG} (s0 : St) {this : Nat} {p0 : Int32} {p1 : Int32} {sE : St} {vE : Int32} (h : sX1_three s0 this p0 p1 = some (sE, vE)) : Mt G YX1_three yX1_three [rV (some this), iV p0, iV p1] s0 (some (iV vE)) sE := by
  refine go_start (ls0 := [(0, rV (some this)), (1, iV p0), (2, iV p1)]) (by decide +kernel) rfl (fun h => by cases h) (Nat.le_of_ble_eq_true rfl) rfl ?_
  revert h
  unfold sX1_three
  refine im (go_aload_n (pc := 0) (Y := YX1_three) 0 dX1_three_0 rfl rfl) ?_
  refine im (go_aload_n (pc := 1) (Y := YX1_three) 0 dX1_three_1 rfl rfl) ?_
  refine im (go_iload_n (pc := 2) (Y := YX1_three) 1 dX1_three_2 rfl rfl) ?_
  refine kdg (fun k1 => ?_)
  refine bpg (fun v2 he3 => ?_)
  refine im (go_callV (pc := 3) (Y := YX1_three) (Yc := YX1_isPlace) (y := yX1_isPlace) (n := 1) (c0 := 0) (q := (RX1, TX1, 25)) this [iV p0] [rV (some this)] rfl rfl k1 (mX1_isPlace s0 he3) YOK_X1_isPlace rfl q1213 q129 q1212 qs38 q1210 (Nat.le_of_ble_eq_true rfl) (Nat.le_of_ble_eq_true rfl) (Nat.le_of_ble_eq_true rfl) dX1_three_3 (st2 := [iV v2, rV (some this)]) rfl) ?_
  clear he3
  refine im (go_iload_n (pc := 6) (Y := YX1_three) 2 dX1_three_6 rfl rfl) ?_
  refine kdg (fun k4 => ?_)
  refine bpg (fun v5 he6 => ?_)
  refine im (go_callV (pc := 7) (Y := YX1_three) (Yc := YX1_whyMinute) (y := yX1_whyMinute) (n := 2) (c0 := 0) (q := (RX1, TX1, 25)) this [iV v2, iV p1] [] rfl rfl k4 (mX1_whyMinute s0 he6) YOK_X1_whyMinute rfl q1427 q129 q1426 qs54 q1424 (Nat.le_of_ble_eq_true rfl) (Nat.le_of_ble_eq_true rfl) (Nat.le_of_ble_eq_true rfl) dX1_three_7 (st2 := [iV v5]) rfl) ?_
  clear he6
  refine im (go_istore_n (pc := 10) (Y := YX1_three) (ls2 := [(3, iV v5), (0, rV (some this)), (1, iV p0), (2, iV p1)]) dX1_three_10 rfl (Nat.le_of_ble_eq_true rfl) rfl) ?_
  refine im (go_iload_n (pc := 11) (Y := YX1_three) 0 dX1_three_11 rfl rfl) ?_
  refine flp2 (go_if_le (pc := 12) (Y := YX1_three) 21 dX1_three_12 (by decide)) ?_ ?_
  · refine im (go_aload_n (pc := 21) (Y := YX1_three) 1 dX1_three_21 rfl rfl) ?_
    refine flp (go_gR (pc := 22) (Y := YX1_three) fF1002 (by decide) q202 (Or.inl rfl) dX1_three_22) (fun v7 => ?_)
    refine im (go_iload_n (pc := 25) (Y := YX1_three) 2 dX1_three_25 rfl rfl) ?_
    refine im (go_iload_n (pc := 26) (Y := YX1_three) 3 dX1_three_26 rfl rfl) ?_
    refine ivg (fun w8 r9 k10 => ?_)
    refine bpg (fun v11 he12 => ?_)
    refine im (go_callV (pc := 27) (Y := YX1_three) (Yc := YX14_watchers) (y := yX14_watchers) (n := 2) (c0 := 16) (q := (RX14, TX14, 4)) w8 [iV p0, iV p1] [] (by rw [r9]; rfl) rfl k10 (mX14_watchers s0 he12) YOK_X14_watchers rfl q1229 q156 q1227 q1228 q1226 (Nat.le_of_ble_eq_true rfl) (Nat.le_of_ble_eq_true rfl) (Nat.le_of_ble_eq_true rfl) dX1_three_27 (st2 := [iV v11]) rfl) ?_
    clear he12
    refine im (go_istore (pc := 30) (Y := YX1_three) (ls2 := [(4, iV v11), (3, iV v5), (0, rV (some this)), (1, iV p0), (2, iV p1)]) dX1_three_30 (Nat.le_of_ble_eq_true rfl) rfl) ?_
    refine im (go_bipush (pc := 32) (Y := YX1_three) (v := -2) dX1_three_32 rfl) ?_
    refine im (go_istore (pc := 34) (Y := YX1_three) (ls2 := [(5, iV (-2)), (4, iV v11), (3, iV v5), (0, rV (some this)), (1, iV p0), (2, iV p1)]) dX1_three_34 (Nat.le_of_ble_eq_true rfl) rfl) ?_
    refine im (go_iconst (pc := 36) (Y := YX1_three) (v := 0) dX1_three_36 rfl) ?_
    refine im (go_istore (pc := 37) (Y := YX1_three) (ls2 := [(6, iV 0), (5, iV (-2)), (4, iV v11), (3, iV v5), (0, rV (some this)), (1, iV p0), (2, iV p1)]) dX1_three_37 (Nat.le_of_ble_eq_true rfl) rfl) ?_
    refine bpg (fun v27 he32 h33 => ?_)
    refine go_sub [4, 2, 1, 0] rfl (sX1_three_L39_go s0 this v11 FU _ _ _ he32 ?_)
    clear he32
    revert h33
    refine im (go_aload_n (pc := 97) (Y := YX1_three) 0 dX1_three_97 rfl rfl) ?_
    refine im (go_iload (pc := 98) (Y := YX1_three) 1 dX1_three_98 rfl) ?_
    refine kdg (fun k28 => ?_)
    refine bdg (fun s29 v30 he31 => ?_)
    refine im (go_callV (pc := 100) (Y := YX1_three) (Yc := YX1_well) (y := yX1_well) (n := 1) (c0 := 0) (q := (RX1, TX1, 25)) this [iV v27] [] rfl rfl k28 (mX1_well s0 he31) YOK_X1_well rfl q1102 q129 q1101 qs29 q1099 (Nat.le_of_ble_eq_true rfl) (Nat.le_of_ble_eq_true rfl) (Nat.le_of_ble_eq_true rfl) dX1_three_100 (st2 := [iV v30]) rfl) ?_
    clear he31
    refine e2 (fun q0 q1 => ?_)
    subst q0
    subst q1
    exact go_iret (pc := 103) (Y := YX1_three) rfl dX1_three_103
  · refine im (go_aload_n (pc := 15) (Y := YX1_three) 1 dX1_three_15 rfl rfl) ?_
    refine im (go_iload_n (pc := 16) (Y := YX1_three) 0 dX1_three_16 rfl rfl) ?_
    refine kdg (fun k34 => ?_)
    refine bdg (fun s35 v36 he37 => ?_)
    refine im (go_callV (pc := 17) (Y := YX1_three) (Yc := YX1_refused) (y := yX1_refused) (n := 1) (c0 := 0) (q := (RX1, TX1, 25)) this [iV v5] [] rfl rfl k34 (mX1_refused s0 he37) YOK_X1_refused rfl q288 q129 q287 qs0 q285 (Nat.le_of_ble_eq_true rfl) (Nat.le_of_ble_eq_true rfl) (Nat.le_of_ble_eq_true rfl) dX1_three_17 (st2 := [iV v36]) rfl) ?_
    clear he37
    refine e2 (fun q0 q1 => ?_)
    subst q0
    subst q1
    exact go_iret (pc := 20) (Y := YX1_three) rfl dX1_three_20
abbrev YX1_whyHeat : mY := (RX1, cX1_whyHeat, 2, (Option.some .int), 2, 46, false)
theorem YOK_X1_whyHeat : YOK yX1_whyHeat 1 := ⟨⟨by decide +kernel, by decide +kernel⟩, by decide +kernel⟩
theorem mX1_whyHeat {G : gG} (s0 : St) {this : Nat} {p0 : Int32} {vE : Int32} (h : sX1_whyHeat s0 this p0 = some vE) : Mt G YX1_whyHeat yX1_whyHeat [rV (some this), iV p0] s0 (some (iV vE)) s0 := by
  refine go_start (ls0 := [(0, rV (some this)), (1, iV p0)]) (by decide +kernel) rfl (fun h => by cases h) (Nat.le_of_ble_eq_true rfl) rfl ?_
  revert h
  unfold sX1_whyHeat
  refine im (go_aload_n (pc := 0) (Y := YX1_whyHeat) 0 dX1_whyHeat_0 rfl rfl) ?_
  refine im (go_aload_n (pc := 1) (Y := YX1_whyHeat) 0 dX1_whyHeat_1 rfl rfl) ?_
  refine flp (go_gR (pc := 2) (Y := YX1_whyHeat) fF1001 (by decide) q201 (Or.inl rfl) dX1_whyHeat_2) (fun v1 => ?_)
  refine bpg (fun v2 he6 h7 => ?_)
  have hj13 : Go G YX1_whyHeat s0 s0 (some (iV vE)) 13 [(1, iV p0)] [iV v2, rV (some this)] s0 := by
    clear he6
    revert h7
    refine im (go_iload_n (pc := 13) (Y := YX1_whyHeat) 0 dX1_whyHeat_13 rfl rfl) ?_
    refine im (go_iconst (pc := 14) (Y := YX1_whyHeat) (v := 0) dX1_whyHeat_14 rfl) ?_
    refine im (go_bipush (pc := 15) (Y := YX1_whyHeat) (v := 9) dX1_whyHeat_15 rfl) ?_
    refine kdg (fun k3 => ?_)
    refine bpg (fun v4 he5 => ?_)
    refine im (go_callV (pc := 17) (Y := YX1_whyHeat) (Yc := YX1_why) (y := yX1_why) (n := 4) (c0 := 0) (q := (RX1, TX1, 25)) this [iV v2, iV p0, iV 0, iV 9] [] rfl rfl k3 (mX1_why s0 he5) YOK_X1_why rfl q1192 q129 q1191 qs37 q1189 (Nat.le_of_ble_eq_true rfl) (Nat.le_of_ble_eq_true rfl) (Nat.le_of_ble_eq_true rfl) dX1_whyHeat_17 (st2 := [iV v4]) rfl) ?_
    clear he5
    refine e1 (fun q0 => ?_)
    subst q0
    exact go_iret (pc := 20) (Y := YX1_whyHeat) rfl dX1_whyHeat_20
  clear h7
  revert he6
  refine flp2 (go_ifnull (pc := 5) (Y := YX1_whyHeat) 12 dX1_whyHeat_5 (by decide)) ?_ ?_
  · refine im (go_iconst (pc := 12) (Y := YX1_whyHeat) (v := 0) dX1_whyHeat_12 rfl) ?_
    refine e1 (fun q0 => ?_)
    subst q0
    exact go_sub [1] rfl hj13
  · refine im (go_iconst (pc := 8) (Y := YX1_whyHeat) (v := 1) dX1_whyHeat_8 rfl) ?_
    refine im (go_goto (pc := 9) (Y := YX1_whyHeat) 13 dX1_whyHeat_9 (by decide)) ?_
    refine e1 (fun q0 => ?_)
    subst q0
    exact go_sub [1] rfl hj13
abbrev YX1_refusedBy : mY := (RX1, cX1_refusedBy, 3, (Option.some .int), 1, 21, false)
theorem YOK_X1_refusedBy : YOK yX1_refusedBy 2 := ⟨⟨by decide +kernel, by decide +kernel⟩, by decide +kernel⟩
theorem mX1_refusedBy {G : gG} (s0 : St) {this : Nat} {p0 : Int32} {p1 : Int32} {sE : St} {vE : Int32} (h : sX1_refusedBy s0 this p0 p1 = some (sE, vE)) : Mt G YX1_refusedBy yX1_refusedBy [rV (some this), iV p0, iV p1] s0 (some (iV vE)) sE := by
  refine go_start (ls0 := [(0, rV (some this)), (1, iV p0), (2, iV p1)]) (by decide +kernel) rfl (fun h => by cases h) (Nat.le_of_ble_eq_true rfl) rfl ?_
  revert h
  unfold sX1_refusedBy
  refine im (go_aload_n (pc := 0) (Y := YX1_refusedBy) 0 dX1_refusedBy_0 rfl rfl) ?_
  refine im (go_iload_n (pc := 1) (Y := YX1_refusedBy) 1 dX1_refusedBy_1 rfl rfl) ?_
  refine kdg (fun k1 => ?_)
  refine bdg (fun s2 v3 he4 => ?_)
  refine im (go_callV (pc := 2) (Y := YX1_refusedBy) (Yc := YX1_refused) (y := yX1_refused) (n := 1) (c0 := 0) (q := (RX1, TX1, 25)) this [iV p0] [] rfl rfl k1 (mX1_refused s0 he4) YOK_X1_refused rfl q288 q129 q287 qs0 q285 (Nat.le_of_ble_eq_true rfl) (Nat.le_of_ble_eq_true rfl) (Nat.le_of_ble_eq_true rfl) dX1_refusedBy_2 (st2 := [iV v3]) rfl) ?_
  clear he4
  refine im (go_pop (pc := 5) (Y := YX1_refusedBy) dX1_refusedBy_5 rfl) ?_
  refine im (go_iload_n (pc := 6) (Y := YX1_refusedBy) 2 dX1_refusedBy_6 rfl rfl) ?_
  refine e2 (fun q0 q1 => ?_)
  subst q0
  subst q1
  exact go_iret (pc := 7) (Y := YX1_refusedBy) rfl dX1_refusedBy_7
abbrev YX1_gets : mY := (RX1, cX1_gets, 3, (Option.some .int), 0, 0, false)
theorem YOK_X1_gets : YOK yX1_gets 3 := ⟨⟨by decide +kernel, by decide +kernel⟩, by decide +kernel⟩
theorem mX1_gets {G : gG} (s0 : St) {p0 : Int32} {p1 : Int32} {p2 : Int32} {vE : Int32} (h : sX1_gets s0 p0 p1 p2 = some vE) : Mt G YX1_gets yX1_gets [iV p0, iV p1, iV p2] s0 (some (iV vE)) s0 := by
  refine go_start (ls0 := [(0, iV p0), (1, iV p1), (2, iV p2)]) (by decide +kernel) rfl (fun h => by cases h) (Nat.le_of_ble_eq_true rfl) rfl ?_
  revert h
  unfold sX1_gets
  refine im (go_iload_n (pc := 0) (Y := YX1_gets) 1 dX1_gets_0 rfl rfl) ?_
  refine flp2 (go_if_eq (pc := 1) (Y := YX1_gets) 18 dX1_gets_1 (by decide)) ?_ ?_
  · refine im (go_iload_n (pc := 18) (Y := YX1_gets) 2 dX1_gets_18 rfl rfl) ?_
    refine flp2 (go_if_eq (pc := 19) (Y := YX1_gets) 27 dX1_gets_19 (by decide)) ?_ ?_
    · refine im (go_iconst (pc := 27) (Y := YX1_gets) (v := 2) dX1_gets_27 rfl) ?_
      refine e1 (fun q0 => ?_)
      subst q0
      exact go_iret (pc := 28) (Y := YX1_gets) rfl dX1_gets_28
    · refine im (go_iload_n (pc := 22) (Y := YX1_gets) 0 dX1_gets_22 rfl rfl) ?_
      refine im (go_ineg (pc := 23) (Y := YX1_gets) dX1_gets_23) ?_
      refine im (go_goto (pc := 24) (Y := YX1_gets) 28 dX1_gets_24 (by decide)) ?_
      refine e1 (fun q0 => ?_)
      subst q0
      exact go_iret (pc := 28) (Y := YX1_gets) rfl dX1_gets_28
  · refine im (go_iload_n (pc := 4) (Y := YX1_gets) 2 dX1_gets_4 rfl rfl) ?_
    refine flp2 (go_if_eq (pc := 5) (Y := YX1_gets) 14 dX1_gets_5 (by decide)) ?_ ?_
    · refine im (go_iconst (pc := 14) (Y := YX1_gets) (v := 4) dX1_gets_14 rfl) ?_
      refine im (go_goto (pc := 15) (Y := YX1_gets) 28 dX1_gets_15 (by decide)) ?_
      refine e1 (fun q0 => ?_)
      subst q0
      exact go_iret (pc := 28) (Y := YX1_gets) rfl dX1_gets_28
    · refine im (go_iconst (pc := 8) (Y := YX1_gets) (v := 1) dX1_gets_8 rfl) ?_
      refine im (go_iload_n (pc := 9) (Y := YX1_gets) 0 dX1_gets_9 rfl rfl) ?_
      refine im (go_isub (pc := 10) (Y := YX1_gets) dX1_gets_10) ?_
      refine im (go_goto (pc := 11) (Y := YX1_gets) 28 dX1_gets_11 (by decide)) ?_
      refine e1 (fun q0 => ?_)
      subst q0
      exact go_iret (pc := 28) (Y := YX1_gets) rfl dX1_gets_28
abbrev YX1_says : mY := (RX1, cX1_says, 6, (Option.some .int), 3, 67, false)
theorem YOK_X1_says : YOK yX1_says 4 := ⟨⟨by decide +kernel, by decide +kernel⟩, by decide +kernel⟩
theorem mX1_says {G : gG} (s0 : St) {this : Nat} {p0 : Int32} {p1 : Int32} {p2 : Int32} {p3 : Int32} {sE : St} {vE : Int32} (h : sX1_says s0 this p0 p1 p2 p3 = some (sE, vE)) : Mt G YX1_says yX1_says [rV (some this), iV p0, iV p1, iV p2, iV p3] s0 (some (iV vE)) sE := by
  refine go_start (ls0 := [(0, rV (some this)), (1, iV p0), (2, iV p1), (3, iV p2), (4, iV p3)]) (by decide +kernel) rfl (fun h => by cases h) (Nat.le_of_ble_eq_true rfl) rfl ?_
  revert h
  unfold sX1_says
  refine im (go_aload_n (pc := 0) (Y := YX1_says) 0 dX1_says_0 rfl rfl) ?_
  refine im (go_iload_n (pc := 1) (Y := YX1_says) 1 dX1_says_1 rfl rfl) ?_
  refine kdg (fun k1 => ?_)
  refine bpg (fun v2 he3 => ?_)
  refine im (go_callV (pc := 2) (Y := YX1_says) (Yc := YX1_whyHeat) (y := yX1_whyHeat) (n := 1) (c0 := 0) (q := (RX1, TX1, 25)) this [iV p0] [] rfl rfl k1 (mX1_whyHeat s0 he3) YOK_X1_whyHeat rfl q1446 q129 q1445 qs56 q1443 (Nat.le_of_ble_eq_true rfl) (Nat.le_of_ble_eq_true rfl) (Nat.le_of_ble_eq_true rfl) dX1_says_2 (st2 := [iV v2]) rfl) ?_
  clear he3
  refine im (go_istore (pc := 5) (Y := YX1_says) (ls2 := [(5, iV v2), (0, rV (some this)), (1, iV p0), (2, iV p1), (3, iV p2), (4, iV p3)]) dX1_says_5 (Nat.le_of_ble_eq_true rfl) rfl) ?_
  refine im (go_iload (pc := 7) (Y := YX1_says) 0 dX1_says_7 rfl) ?_
  refine flp2 (go_if_le (pc := 9) (Y := YX1_says) 23 dX1_says_9 (by decide)) ?_ ?_
  · refine im (go_aload_n (pc := 23) (Y := YX1_says) 1 dX1_says_23 rfl rfl) ?_
    refine im (go_iload (pc := 24) (Y := YX1_says) 5 dX1_says_24 rfl) ?_
    refine bpg (fun v4 he13 h14 => ?_)
    have hj44 : Go G YX1_says s0 sE (some (iV vE)) 44 [] [iV v4, rV (some this)] s0 := by
      clear he13
      revert h14
      refine kdg (fun k5 => ?_)
      refine bdg (fun s6 v7 he8 => ?_)
      refine im (go_callV (pc := 44) (Y := YX1_says) (Yc := YX1_well) (y := yX1_well) (n := 1) (c0 := 0) (q := (RX1, TX1, 25)) this [iV v4] [] rfl rfl k5 (mX1_well s0 he8) YOK_X1_well rfl q1102 q129 q1101 qs29 q1099 (Nat.le_of_ble_eq_true rfl) (Nat.le_of_ble_eq_true rfl) (Nat.le_of_ble_eq_true rfl) dX1_says_44 (st2 := [iV v7]) rfl) ?_
      clear he8
      refine e2 (fun q0 q1 => ?_)
      subst q0
      subst q1
      exact go_iret (pc := 47) (Y := YX1_says) rfl dX1_says_47
    clear h14
    revert he13
    refine flp2 (go_if_eq (pc := 26) (Y := YX1_says) 38 dX1_says_26 (by decide)) ?_ ?_
    · refine im (go_iload_n (pc := 38) (Y := YX1_says) 2 dX1_says_38 rfl rfl) ?_
      refine im (go_iload_n (pc := 39) (Y := YX1_says) 3 dX1_says_39 rfl rfl) ?_
      refine im (go_iload_n (pc := 40) (Y := YX1_says) 4 dX1_says_40 rfl rfl) ?_
      refine bpg (fun v9 he10 => ?_)
      refine im (go_callS (pc := 41) (Y := YX1_says) (Yc := YX1_gets) (y := yX1_gets) (n := 3) [iV p0, iV p1, iV p2] [rV (some this)] rfl (mX1_gets s0 he10) YOK_X1_gets rfl q1453 q129 q1452 q1451 (Nat.le_of_ble_eq_true rfl) (Nat.le_of_ble_eq_true rfl) (Nat.le_of_ble_eq_true rfl) dX1_says_41 (st2 := [iV v9, rV (some this)]) rfl) ?_
      clear he10
      refine e1 (fun q0 => ?_)
      subst q0
      exact go_sub [] rfl hj44
    · refine im (go_iload_n (pc := 29) (Y := YX1_says) 2 dX1_says_29 rfl rfl) ?_
      refine im (go_iload_n (pc := 30) (Y := YX1_says) 4 dX1_says_30 rfl rfl) ?_
      refine im (go_iload_n (pc := 31) (Y := YX1_says) 3 dX1_says_31 rfl rfl) ?_
      refine bpg (fun v11 he12 => ?_)
      refine im (go_callS (pc := 32) (Y := YX1_says) (Yc := YX1_gets) (y := yX1_gets) (n := 3) [iV p0, iV p2, iV p1] [rV (some this)] rfl (mX1_gets s0 he12) YOK_X1_gets rfl q1453 q129 q1452 q1451 (Nat.le_of_ble_eq_true rfl) (Nat.le_of_ble_eq_true rfl) (Nat.le_of_ble_eq_true rfl) dX1_says_32 (st2 := [iV v11, rV (some this)]) rfl) ?_
      clear he12
      refine im (go_goto (pc := 35) (Y := YX1_says) 44 dX1_says_35 (by decide)) ?_
      refine e1 (fun q0 => ?_)
      subst q0
      exact go_sub [] rfl hj44
  · refine im (go_aload_n (pc := 12) (Y := YX1_says) 1 dX1_says_12 rfl rfl) ?_
    refine im (go_iload (pc := 13) (Y := YX1_says) 0 dX1_says_13 rfl) ?_
    refine im (go_bipush (pc := 15) (Y := YX1_says) (v := -100) dX1_says_15 rfl) ?_
    refine kdg (fun k15 => ?_)
    refine bdg (fun s16 v17 he18 => ?_)
    refine im (go_callV (pc := 17) (Y := YX1_says) (Yc := YX1_refusedBy) (y := yX1_refusedBy) (n := 2) (c0 := 0) (q := (RX1, TX1, 25)) this [iV v2, iV (-100)] [] rfl rfl k15 (mX1_refusedBy s0 he18) YOK_X1_refusedBy rfl q1450 q129 q1449 qs57 q1447 (Nat.le_of_ble_eq_true rfl) (Nat.le_of_ble_eq_true rfl) (Nat.le_of_ble_eq_true rfl) dX1_says_17 (st2 := [iV v17]) rfl) ?_
    clear he18
    refine im (go_goto (pc := 20) (Y := YX1_says) 47 dX1_says_20 (by decide)) ?_
    refine e2 (fun q0 q1 => ?_)
    subst q0
    subst q1
    exact go_iret (pc := 47) (Y := YX1_says) rfl dX1_says_47
abbrev YX1_isRest : mY := (RX1, cX1_isRest, 4, (Option.some .boolean), 1, 22, false)
theorem YOK_X1_isRest : YOK yX1_isRest 2 := ⟨⟨by decide +kernel, by decide +kernel⟩, by decide +kernel⟩
theorem mX1_isRest {G : gG} (s0 : St) {p0 : Int32} {p1 : Int32} {vE : Int32} (h : sX1_isRest s0 p0 p1 = some vE) : Mt G YX1_isRest yX1_isRest [iV p0, iV p1] s0 (some (iV vE)) s0 := by
  refine go_start (ls0 := [(0, iV p0), (1, iV p1)]) (by decide +kernel) rfl (fun h => by cases h) (Nat.le_of_ble_eq_true rfl) rfl ?_
  revert h
  unfold sX1_isRest
  refine im (go_iload_n (pc := 0) (Y := YX1_isRest) 1 dX1_isRest_0 rfl rfl) ?_
  refine im (go_iconst (pc := 1) (Y := YX1_isRest) (v := 1) dX1_isRest_1 rfl) ?_
  refine bpg (fun v1 he19 h20 => ?_)
  have hj10 : Go G YX1_isRest s0 s0 (some (iV vE)) 10 [(0, iV p0), (1, iV p1)] [iV v1] s0 := by
    clear he19
    revert h20
    refine im (go_istore_n (pc := 10) (Y := YX1_isRest) (ls2 := [(2, iV v1), (0, iV p0), (1, iV p1)]) dX1_isRest_10 rfl (Nat.le_of_ble_eq_true rfl) rfl) ?_
    refine im (go_iload_n (pc := 11) (Y := YX1_isRest) 2 dX1_isRest_11 rfl rfl) ?_
    refine im (go_iconst (pc := 12) (Y := YX1_isRest) (v := 2) dX1_isRest_12 rfl) ?_
    refine flp (go_irem (pc := 13) (Y := YX1_isRest) dX1_isRest_13) (fun h => ?_)
    revert h
    refine im (go_iconst (pc := 14) (Y := YX1_isRest) (v := 1) dX1_isRest_14 rfl) ?_
    refine bpg (fun v2 he17 h18 => ?_)
    have hj23 : Go G YX1_isRest s0 s0 (some (iV vE)) 23 [(0, iV p0), (2, iV v1)] [iV v2] s0 := by
      clear he17
      revert h18
      refine im (go_istore_n (pc := 23) (Y := YX1_isRest) (ls2 := [(3, iV v2), (0, iV p0), (2, iV v1)]) dX1_isRest_23 rfl (Nat.le_of_ble_eq_true rfl) rfl) ?_
      refine im (go_iload_n (pc := 24) (Y := YX1_isRest) 1 dX1_isRest_24 rfl rfl) ?_
      refine im (go_iload_n (pc := 25) (Y := YX1_isRest) 2 dX1_isRest_25 rfl rfl) ?_
      refine bpg (fun v3 he15 h16 => ?_)
      have hj34 : Go G YX1_isRest s0 s0 (some (iV vE)) 34 [(0, iV p0), (2, iV v1), (3, iV v2)] [iV v3, iV p0] s0 := by
        clear he15
        revert h16
        refine im (go_iload_n (pc := 34) (Y := YX1_isRest) 2 dX1_isRest_34 rfl rfl) ?_
        refine bpg (fun v4 he5 => ?_)
        refine im (go_callS (pc := 35) (Y := YX1_isRest) (Yc := YX1_gets) (y := yX1_gets) (n := 3) [iV p0, iV v3, iV v2] [] rfl (mX1_gets s0 he5) YOK_X1_gets rfl q1453 q129 q1452 q1451 (Nat.le_of_ble_eq_true rfl) (Nat.le_of_ble_eq_true rfl) (Nat.le_of_ble_eq_true rfl) dX1_isRest_35 (st2 := [iV v4]) rfl) ?_
        clear he5
        refine im (go_iload_n (pc := 38) (Y := YX1_isRest) 0 dX1_isRest_38 rfl rfl) ?_
        refine im (go_iload_n (pc := 39) (Y := YX1_isRest) 1 dX1_isRest_39 rfl rfl) ?_
        refine im (go_iload_n (pc := 40) (Y := YX1_isRest) 2 dX1_isRest_40 rfl rfl) ?_
        refine bpg (fun v6 he7 => ?_)
        refine im (go_callS (pc := 41) (Y := YX1_isRest) (Yc := YX1_gets) (y := yX1_gets) (n := 3) [iV p0, iV v1, iV v2] [iV v4] rfl (mX1_gets s0 he7) YOK_X1_gets rfl q1453 q129 q1452 q1451 (Nat.le_of_ble_eq_true rfl) (Nat.le_of_ble_eq_true rfl) (Nat.le_of_ble_eq_true rfl) dX1_isRest_41 (st2 := [iV v6, iV v4]) rfl) ?_
        clear he7
        refine flp2 (go_icmp_gt (pc := 44) (Y := YX1_isRest) 74 dX1_isRest_44 (by decide)) ?_ ?_
        · refine im (go_iconst (pc := 74) (Y := YX1_isRest) (v := 0) dX1_isRest_74 rfl) ?_
          refine e1 (fun q0 => ?_)
          subst q0
          exact go_zret (pc := 75) (Y := YX1_isRest) rfl rfl dX1_isRest_75
        · refine im (go_iload_n (pc := 47) (Y := YX1_isRest) 0 dX1_isRest_47 rfl rfl) ?_
          refine im (go_iload_n (pc := 48) (Y := YX1_isRest) 2 dX1_isRest_48 rfl rfl) ?_
          refine bpg (fun v8 he13 h14 => ?_)
          have hj57 : Go G YX1_isRest s0 s0 (some (iV vE)) 57 [(0, iV p0), (2, iV v1), (3, iV v2)] [iV v8, iV p0] s0 := by
            clear he13
            revert h14
            refine im (go_iload_n (pc := 57) (Y := YX1_isRest) 1 dX1_isRest_57 rfl rfl) ?_
            refine bpg (fun v9 he10 => ?_)
            refine im (go_callS (pc := 58) (Y := YX1_isRest) (Yc := YX1_gets) (y := yX1_gets) (n := 3) [iV p0, iV v8, iV v1] [] rfl (mX1_gets s0 he10) YOK_X1_gets rfl q1453 q129 q1452 q1451 (Nat.le_of_ble_eq_true rfl) (Nat.le_of_ble_eq_true rfl) (Nat.le_of_ble_eq_true rfl) dX1_isRest_58 (st2 := [iV v9]) rfl) ?_
            clear he10
            refine im (go_iload_n (pc := 61) (Y := YX1_isRest) 0 dX1_isRest_61 rfl rfl) ?_
            refine im (go_iload_n (pc := 62) (Y := YX1_isRest) 2 dX1_isRest_62 rfl rfl) ?_
            refine im (go_iload_n (pc := 63) (Y := YX1_isRest) 1 dX1_isRest_63 rfl rfl) ?_
            refine bpg (fun v11 he12 => ?_)
            refine im (go_callS (pc := 64) (Y := YX1_isRest) (Yc := YX1_gets) (y := yX1_gets) (n := 3) [iV p0, iV v2, iV v1] [iV v9] rfl (mX1_gets s0 he12) YOK_X1_gets rfl q1453 q129 q1452 q1451 (Nat.le_of_ble_eq_true rfl) (Nat.le_of_ble_eq_true rfl) (Nat.le_of_ble_eq_true rfl) dX1_isRest_64 (st2 := [iV v11, iV v9]) rfl) ?_
            clear he12
            refine flp2 (go_icmp_gt (pc := 67) (Y := YX1_isRest) 74 dX1_isRest_67 (by decide)) ?_ ?_
            · refine im (go_iconst (pc := 74) (Y := YX1_isRest) (v := 0) dX1_isRest_74 rfl) ?_
              refine e1 (fun q0 => ?_)
              subst q0
              exact go_zret (pc := 75) (Y := YX1_isRest) rfl rfl dX1_isRest_75
            · refine im (go_iconst (pc := 70) (Y := YX1_isRest) (v := 1) dX1_isRest_70 rfl) ?_
              refine im (go_goto (pc := 71) (Y := YX1_isRest) 75 dX1_isRest_71 (by decide)) ?_
              refine e1 (fun q0 => ?_)
              subst q0
              exact go_zret (pc := 75) (Y := YX1_isRest) rfl rfl dX1_isRest_75
          clear h14
          revert he13
          refine flp2 (go_if_ne (pc := 49) (Y := YX1_isRest) 56 dX1_isRest_49 (by decide)) ?_ ?_
          · refine im (go_iconst (pc := 52) (Y := YX1_isRest) (v := 1) dX1_isRest_52 rfl) ?_
            refine im (go_goto (pc := 53) (Y := YX1_isRest) 57 dX1_isRest_53 (by decide)) ?_
            refine e1 (fun q0 => ?_)
            subst q0
            exact go_sub [0, 1, 2] rfl hj57
          · refine im (go_iconst (pc := 56) (Y := YX1_isRest) (v := 0) dX1_isRest_56 rfl) ?_
            refine e1 (fun q0 => ?_)
            subst q0
            exact go_sub [0, 1, 2] rfl hj57
      clear h16
      revert he15
      refine flp2 (go_if_ne (pc := 26) (Y := YX1_isRest) 33 dX1_isRest_26 (by decide)) ?_ ?_
      · refine im (go_iconst (pc := 29) (Y := YX1_isRest) (v := 1) dX1_isRest_29 rfl) ?_
        refine im (go_goto (pc := 30) (Y := YX1_isRest) 34 dX1_isRest_30 (by decide)) ?_
        refine e1 (fun q0 => ?_)
        subst q0
        exact go_sub [1, 2, 0] rfl hj34
      · refine im (go_iconst (pc := 33) (Y := YX1_isRest) (v := 0) dX1_isRest_33 rfl) ?_
        refine e1 (fun q0 => ?_)
        subst q0
        exact go_sub [1, 2, 0] rfl hj34
    clear h18
    revert he17
    refine flp2 (go_icmp_ne (pc := 15) (Y := YX1_isRest) 22 dX1_isRest_15 (by decide)) ?_ ?_
    · refine im (go_iconst (pc := 18) (Y := YX1_isRest) (v := 1) dX1_isRest_18 rfl) ?_
      refine im (go_goto (pc := 19) (Y := YX1_isRest) 23 dX1_isRest_19 (by decide)) ?_
      refine e1 (fun q0 => ?_)
      subst q0
      exact go_sub [1, 0] rfl hj23
    · refine im (go_iconst (pc := 22) (Y := YX1_isRest) (v := 0) dX1_isRest_22 rfl) ?_
      refine e1 (fun q0 => ?_)
      subst q0
      exact go_sub [1, 0] rfl hj23
  clear h20
  revert he19
  refine flp2 (go_icmp_le (pc := 2) (Y := YX1_isRest) 9 dX1_isRest_2 (by decide)) ?_ ?_
  · refine im (go_iconst (pc := 9) (Y := YX1_isRest) (v := 0) dX1_isRest_9 rfl) ?_
    refine e1 (fun q0 => ?_)
    subst q0
    exact go_sub [0, 1] rfl hj10
  · refine im (go_iconst (pc := 5) (Y := YX1_isRest) (v := 1) dX1_isRest_5 rfl) ?_
    refine im (go_goto (pc := 6) (Y := YX1_isRest) 10 dX1_isRest_6 (by decide)) ?_
    refine e1 (fun q0 => ?_)
    subst q0
    exact go_sub [0, 1] rfl hj10
abbrev YX1_rests : mY := (RX1, cX1_rests, 5, (Option.some .int), 3, 67, false)
theorem YOK_X1_rests : YOK yX1_rests 1 := ⟨⟨by decide +kernel, by decide +kernel⟩, by decide +kernel⟩
theorem sX1_rests_L21_go {G : gG} {s0 sE : St} {rE : Option V3} (s4 : St) (this : Nat) (i1 : Int32) : ∀ (n : Nat) (v5 : Int32) (v6 : Int32) (v7 : Int32), sX1_rests_L21 s4 i1 n v5 v6 = some v7 → Go G YX1_rests s0 sE rE 50 [(0, rV (some this)), (3, iV v7)] [] s4 → Go G YX1_rests s0 sE rE 21 [(0, rV (some this)), (1, iV i1), (3, iV v5), (4, iV v6)] [] s4 := by
  intro n
  induction n with
  | zero => intro v5 v6 v7 h hx; rw [sX1_rests_L21] at h; cases h
  | succ n ih =>
    intro v5 v6 v7 h hx
    revert h
    rw [sX1_rests_L21]
    refine im (go_iload (pc := 21) (Y := YX1_rests) 3 dX1_rests_21 rfl) ?_
    refine im (go_iconst (pc := 23) (Y := YX1_rests) (v := 4) dX1_rests_23 rfl) ?_
    refine flp2 (go_icmp_ge (pc := 24) (Y := YX1_rests) 50 dX1_rests_24 (by decide)) ?_ ?_
    · refine e1 (fun q0 => ?_)
      subst q0
      exact go_sub [0, 2] rfl hx
    · refine im (go_iload_n (pc := 27) (Y := YX1_rests) 2 dX1_rests_27 rfl rfl) ?_
      refine im (go_iload_n (pc := 28) (Y := YX1_rests) 1 dX1_rests_28 rfl rfl) ?_
      refine im (go_iload (pc := 29) (Y := YX1_rests) 3 dX1_rests_29 rfl) ?_
      refine bpg (fun v8 he9 => ?_)
      refine im (go_callS (pc := 31) (Y := YX1_rests) (Yc := YX1_isRest) (y := yX1_isRest) (n := 2) [iV i1, iV v6] [iV v5] rfl (mX1_isRest s4 he9) YOK_X1_isRest rfl q1460 q129 q1459 q1458 (Nat.le_of_ble_eq_true rfl) (Nat.le_of_ble_eq_true rfl) (Nat.le_of_ble_eq_true rfl) dX1_rests_31 (st2 := [iV v8, iV v5]) rfl) ?_
      clear he9
      refine bpg (fun v10 he11 h12 => ?_)
      have hj42 : Go G YX1_rests s0 sE rE 42 [(0, rV (some this)), (1, iV i1), (4, iV v6)] [iV v10, iV v5] s4 := by
        clear he11
        revert h12
        refine im (go_iadd (pc := 42) (Y := YX1_rests) dX1_rests_42) ?_
        refine im (go_istore_n (pc := 43) (Y := YX1_rests) (ls2 := [(3, iV (v5 + v10)), (0, rV (some this)), (1, iV i1), (4, iV v6)]) dX1_rests_43 rfl (Nat.le_of_ble_eq_true rfl) rfl) ?_
        refine im (go_iinc (pc := 44) (Y := YX1_rests) 3 (v := (v6 + 1)) (ls2 := [(4, iV (v6 + 1)), (3, iV (v5 + v10)), (0, rV (some this)), (1, iV i1)]) dX1_rests_44 rfl rfl (Nat.le_of_ble_eq_true rfl) rfl) ?_
        refine im (go_goto (pc := 47) (Y := YX1_rests) 21 dX1_rests_47 (by decide)) ?_
        exact fun hq => go_sub [2, 3, 1, 0] rfl (ih _ _ _ hq hx)
      clear h12
      revert he11
      refine flp2 (go_if_eq (pc := 34) (Y := YX1_rests) 41 dX1_rests_34 (by decide)) ?_ ?_
      · refine im (go_iconst (pc := 41) (Y := YX1_rests) (v := 0) dX1_rests_41 rfl) ?_
        refine e1 (fun q0 => ?_)
        subst q0
        exact go_sub [0, 1, 3] rfl hj42
      · refine im (go_iconst (pc := 37) (Y := YX1_rests) (v := 1) dX1_rests_37 rfl) ?_
        refine im (go_goto (pc := 38) (Y := YX1_rests) 42 dX1_rests_38 (by decide)) ?_
        refine e1 (fun q0 => ?_)
        subst q0
        exact go_sub [0, 1, 3] rfl hj42
theorem mX1_rests {G : gG} (s0 : St) {this : Nat} {p0 : Int32} {sE : St} {vE : Int32} (h : sX1_rests s0 this p0 = some (sE, vE)) : Mt G YX1_rests yX1_rests [rV (some this), iV p0] s0 (some (iV vE)) sE := by
  refine go_start (ls0 := [(0, rV (some this)), (1, iV p0)]) (by decide +kernel) rfl (fun h => by cases h) (Nat.le_of_ble_eq_true rfl) rfl ?_
  revert h
  unfold sX1_rests
  refine im (go_aload_n (pc := 0) (Y := YX1_rests) 0 dX1_rests_0 rfl rfl) ?_
  refine im (go_iload_n (pc := 1) (Y := YX1_rests) 1 dX1_rests_1 rfl rfl) ?_
  refine kdg (fun k1 => ?_)
  refine bpg (fun v2 he3 => ?_)
  refine im (go_callV (pc := 2) (Y := YX1_rests) (Yc := YX1_whyHeat) (y := yX1_whyHeat) (n := 1) (c0 := 0) (q := (RX1, TX1, 25)) this [iV p0] [] rfl rfl k1 (mX1_whyHeat s0 he3) YOK_X1_whyHeat rfl q1446 q129 q1445 qs56 q1443 (Nat.le_of_ble_eq_true rfl) (Nat.le_of_ble_eq_true rfl) (Nat.le_of_ble_eq_true rfl) dX1_rests_2 (st2 := [iV v2]) rfl) ?_
  clear he3
  refine im (go_istore_n (pc := 5) (Y := YX1_rests) (ls2 := [(2, iV v2), (0, rV (some this)), (1, iV p0)]) dX1_rests_5 rfl (Nat.le_of_ble_eq_true rfl) rfl) ?_
  refine im (go_iload_n (pc := 6) (Y := YX1_rests) 0 dX1_rests_6 rfl rfl) ?_
  refine flp2 (go_if_le (pc := 7) (Y := YX1_rests) 16 dX1_rests_7 (by decide)) ?_ ?_
  · refine im (go_iconst (pc := 16) (Y := YX1_rests) (v := 0) dX1_rests_16 rfl) ?_
    refine im (go_istore_n (pc := 17) (Y := YX1_rests) (ls2 := [(3, iV 0), (2, iV v2), (0, rV (some this)), (1, iV p0)]) dX1_rests_17 rfl (Nat.le_of_ble_eq_true rfl) rfl) ?_
    refine im (go_iconst (pc := 18) (Y := YX1_rests) (v := 0) dX1_rests_18 rfl) ?_
    refine im (go_istore (pc := 19) (Y := YX1_rests) (ls2 := [(4, iV 0), (3, iV 0), (2, iV v2), (0, rV (some this)), (1, iV p0)]) dX1_rests_19 (Nat.le_of_ble_eq_true rfl) rfl) ?_
    refine bpg (fun v13 he18 h19 => ?_)
    refine go_sub [3, 4, 1, 0] rfl (sX1_rests_L21_go s0 this p0 FU _ _ _ he18 ?_)
    clear he18
    revert h19
    refine im (go_aload_n (pc := 50) (Y := YX1_rests) 0 dX1_rests_50 rfl rfl) ?_
    refine im (go_iload_n (pc := 51) (Y := YX1_rests) 1 dX1_rests_51 rfl rfl) ?_
    refine kdg (fun k14 => ?_)
    refine bdg (fun s15 v16 he17 => ?_)
    refine im (go_callV (pc := 52) (Y := YX1_rests) (Yc := YX1_well) (y := yX1_well) (n := 1) (c0 := 0) (q := (RX1, TX1, 25)) this [iV v13] [] rfl rfl k14 (mX1_well s0 he17) YOK_X1_well rfl q1102 q129 q1101 qs29 q1099 (Nat.le_of_ble_eq_true rfl) (Nat.le_of_ble_eq_true rfl) (Nat.le_of_ble_eq_true rfl) dX1_rests_52 (st2 := [iV v16]) rfl) ?_
    clear he17
    refine e2 (fun q0 q1 => ?_)
    subst q0
    subst q1
    exact go_iret (pc := 55) (Y := YX1_rests) rfl dX1_rests_55
  · refine im (go_aload_n (pc := 10) (Y := YX1_rests) 1 dX1_rests_10 rfl rfl) ?_
    refine im (go_iload_n (pc := 11) (Y := YX1_rests) 0 dX1_rests_11 rfl rfl) ?_
    refine kdg (fun k20 => ?_)
    refine bdg (fun s21 v22 he23 => ?_)
    refine im (go_callV (pc := 12) (Y := YX1_rests) (Yc := YX1_refused) (y := yX1_refused) (n := 1) (c0 := 0) (q := (RX1, TX1, 25)) this [iV v2] [] rfl rfl k20 (mX1_refused s0 he23) YOK_X1_refused rfl q288 q129 q287 qs0 q285 (Nat.le_of_ble_eq_true rfl) (Nat.le_of_ble_eq_true rfl) (Nat.le_of_ble_eq_true rfl) dX1_rests_12 (st2 := [iV v22]) rfl) ?_
    clear he23
    refine e2 (fun q0 q1 => ?_)
    subst q0
    subst q1
    exact go_iret (pc := 15) (Y := YX1_rests) rfl dX1_rests_15
abbrev YX1_rest : mY := (RX1, cX1_rest, 4, (Option.some .int), 3, 67, false)
theorem YOK_X1_rest : YOK yX1_rest 1 := ⟨⟨by decide +kernel, by decide +kernel⟩, by decide +kernel⟩
theorem sX1_rest_L18_go {G : gG} {s0 : St} {sE : St} {vE : Int32} (s4 : St) (this : Nat) (i1 : Int32) : ∀ (n : Nat) (v5 : Int32) (o : (St × Int32) ⊕ (Unit)), sX1_rest_L18 s4 this i1 n v5 = some o → (∀ r, o = .inl r → r = (sE, vE)) → (∀ (_ : Unit), o = .inr () → Go G YX1_rest s0 sE (some (iV vE)) 52 [(0, rV (some this))] [] s4) → Go G YX1_rest s0 sE (some (iV vE)) 18 [(0, rV (some this)), (1, iV i1), (3, iV v5)] [] s4 := by
  intro n
  induction n with
  | zero => intro v5 o h hr hx; rw [sX1_rest_L18] at h; cases h
  | succ n ih =>
    intro v5 o h hr hx
    revert h
    rw [sX1_rest_L18]
    refine im (go_iload_n (pc := 18) (Y := YX1_rest) 2 dX1_rest_18 rfl rfl) ?_
    refine im (go_iconst (pc := 19) (Y := YX1_rest) (v := 4) dX1_rest_19 rfl) ?_
    refine flp2 (go_icmp_ge (pc := 20) (Y := YX1_rest) 52 dX1_rest_20 (by decide)) ?_ ?_
    · refine eor (fun hq => ?_)
      exact go_sub [0] rfl (hx () hq)
    · refine im (go_iload_n (pc := 23) (Y := YX1_rest) 1 dX1_rest_23 rfl rfl) ?_
      refine im (go_iload_n (pc := 24) (Y := YX1_rest) 2 dX1_rest_24 rfl rfl) ?_
      refine bpg (fun v6 he7 => ?_)
      refine im (go_callS (pc := 25) (Y := YX1_rest) (Yc := YX1_isRest) (y := yX1_isRest) (n := 2) [iV i1, iV v5] [] rfl (mX1_isRest s4 he7) YOK_X1_isRest rfl q1460 q129 q1459 q1458 (Nat.le_of_ble_eq_true rfl) (Nat.le_of_ble_eq_true rfl) (Nat.le_of_ble_eq_true rfl) dX1_rest_25 (st2 := [iV v6]) rfl) ?_
      clear he7
      refine flp2 (go_if_eq (pc := 28) (Y := YX1_rest) 46 dX1_rest_28 (by decide)) ?_ ?_
      · refine im (go_iinc (pc := 46) (Y := YX1_rest) 2 (v := (v5 + 1)) (ls2 := [(3, iV (v5 + 1)), (0, rV (some this)), (1, iV i1)]) dX1_rest_46 rfl rfl (Nat.le_of_ble_eq_true rfl) rfl) ?_
        refine im (go_goto (pc := 49) (Y := YX1_rest) 18 dX1_rest_49 (by decide)) ?_
        exact fun hq => go_sub [1, 2, 0] rfl (ih _ _ hq hr hx)
      · refine im (go_aload_n (pc := 31) (Y := YX1_rest) 0 dX1_rest_31 rfl rfl) ?_
        refine im (go_bipush (pc := 32) (Y := YX1_rest) (v := 10) dX1_rest_32 rfl) ?_
        refine im (go_iload_n (pc := 34) (Y := YX1_rest) 2 dX1_rest_34 rfl rfl) ?_
        refine im (go_iconst (pc := 35) (Y := YX1_rest) (v := 2) dX1_rest_35 rfl) ?_
        refine flp (go_idiv (pc := 36) (Y := YX1_rest) dX1_rest_36) (fun h => ?_)
        revert h
        refine im (go_imul (pc := 37) (Y := YX1_rest) dX1_rest_37) ?_
        refine im (go_iload_n (pc := 38) (Y := YX1_rest) 2 dX1_rest_38 rfl rfl) ?_
        refine im (go_iconst (pc := 39) (Y := YX1_rest) (v := 2) dX1_rest_39 rfl) ?_
        refine flp (go_irem (pc := 40) (Y := YX1_rest) dX1_rest_40) (fun h => ?_)
        revert h
        refine im (go_iadd (pc := 41) (Y := YX1_rest) dX1_rest_41) ?_
        refine kdg (fun k8 => ?_)
        refine bdg (fun s9 v10 he11 => ?_)
        refine im (go_callV (pc := 42) (Y := YX1_rest) (Yc := YX1_well) (y := yX1_well) (n := 1) (c0 := 0) (q := (RX1, TX1, 25)) this [iV ((10 * (v5 / 2)) + (v5 - v5 / 2 * 2))] [] rfl rfl k8 (mX1_well s4 he11) YOK_X1_well rfl q1102 q129 q1101 qs29 q1099 (Nat.le_of_ble_eq_true rfl) (Nat.le_of_ble_eq_true rfl) (Nat.le_of_ble_eq_true rfl) dX1_rest_42 (st2 := [iV v10]) rfl) ?_
        clear he11
        refine eor (fun hq => ?_)
        have hq2 := hr _ hq
        obtain ⟨q0, q1⟩ := Prod.mk.inj hq2
        subst q0
        subst q1
        exact go_iret (pc := 45) (Y := YX1_rest) rfl dX1_rest_45
theorem mX1_rest {G : gG} (s0 : St) {this : Nat} {p0 : Int32} {sE : St} {vE : Int32} (h : sX1_rest s0 this p0 = some (sE, vE)) : Mt G YX1_rest yX1_rest [rV (some this), iV p0] s0 (some (iV vE)) sE := by
  refine go_start (ls0 := [(0, rV (some this)), (1, iV p0)]) (by decide +kernel) rfl (fun h => by cases h) (Nat.le_of_ble_eq_true rfl) rfl ?_
  revert h
  unfold sX1_rest
  refine im (go_aload_n (pc := 0) (Y := YX1_rest) 0 dX1_rest_0 rfl rfl) ?_
  refine im (go_iload_n (pc := 1) (Y := YX1_rest) 1 dX1_rest_1 rfl rfl) ?_
  refine kdg (fun k1 => ?_)
  refine bpg (fun v2 he3 => ?_)
  refine im (go_callV (pc := 2) (Y := YX1_rest) (Yc := YX1_whyHeat) (y := yX1_whyHeat) (n := 1) (c0 := 0) (q := (RX1, TX1, 25)) this [iV p0] [] rfl rfl k1 (mX1_whyHeat s0 he3) YOK_X1_whyHeat rfl q1446 q129 q1445 qs56 q1443 (Nat.le_of_ble_eq_true rfl) (Nat.le_of_ble_eq_true rfl) (Nat.le_of_ble_eq_true rfl) dX1_rest_2 (st2 := [iV v2]) rfl) ?_
  clear he3
  refine im (go_istore_n (pc := 5) (Y := YX1_rest) (ls2 := [(2, iV v2), (0, rV (some this)), (1, iV p0)]) dX1_rest_5 rfl (Nat.le_of_ble_eq_true rfl) rfl) ?_
  refine im (go_iload_n (pc := 6) (Y := YX1_rest) 0 dX1_rest_6 rfl rfl) ?_
  refine flp2 (go_if_le (pc := 7) (Y := YX1_rest) 16 dX1_rest_7 (by decide)) ?_ ?_
  · refine im (go_iconst (pc := 16) (Y := YX1_rest) (v := 0) dX1_rest_16 rfl) ?_
    refine im (go_istore_n (pc := 17) (Y := YX1_rest) (ls2 := [(3, iV 0), (2, iV v2), (0, rV (some this)), (1, iV p0)]) dX1_rest_17 rfl (Nat.le_of_ble_eq_true rfl) rfl) ?_
    refine lcg (fun o19 he16 h17 => ?_)
    refine go_sub [2, 3, 0] rfl (sX1_rest_L18_go s0 this p0 FU _ _ he16 h17.1 (fun _ hq => ?_))
    have hw := h17.2 () hq
    clear he16
    revert hw
    refine im (go_aload_n (pc := 52) (Y := YX1_rest) 0 dX1_rest_52 rfl rfl) ?_
    refine im (go_bipush (pc := 53) (Y := YX1_rest) (v := -2) dX1_rest_53 rfl) ?_
    refine kdg (fun k12 => ?_)
    refine bdg (fun s13 v14 he15 => ?_)
    refine im (go_callV (pc := 55) (Y := YX1_rest) (Yc := YX1_well) (y := yX1_well) (n := 1) (c0 := 0) (q := (RX1, TX1, 25)) this [iV (-2)] [] rfl rfl k12 (mX1_well s0 he15) YOK_X1_well rfl q1102 q129 q1101 qs29 q1099 (Nat.le_of_ble_eq_true rfl) (Nat.le_of_ble_eq_true rfl) (Nat.le_of_ble_eq_true rfl) dX1_rest_55 (st2 := [iV v14]) rfl) ?_
    clear he15
    refine e2 (fun q0 q1 => ?_)
    subst q0
    subst q1
    exact go_iret (pc := 58) (Y := YX1_rest) rfl dX1_rest_58
  · refine im (go_aload_n (pc := 10) (Y := YX1_rest) 1 dX1_rest_10 rfl rfl) ?_
    refine im (go_iload_n (pc := 11) (Y := YX1_rest) 0 dX1_rest_11 rfl rfl) ?_
    refine kdg (fun k20 => ?_)
    refine bdg (fun s21 v22 he23 => ?_)
    refine im (go_callV (pc := 12) (Y := YX1_rest) (Yc := YX1_refused) (y := yX1_refused) (n := 1) (c0 := 0) (q := (RX1, TX1, 25)) this [iV v2] [] rfl rfl k20 (mX1_refused s0 he23) YOK_X1_refused rfl q288 q129 q287 qs0 q285 (Nat.le_of_ble_eq_true rfl) (Nat.le_of_ble_eq_true rfl) (Nat.le_of_ble_eq_true rfl) dX1_rest_12 (st2 := [iV v22]) rfl) ?_
    clear he23
    refine e2 (fun q0 q1 => ?_)
    subst q0
    subst q1
    exact go_iret (pc := 15) (Y := YX1_rest) rfl dX1_rest_15
abbrev YX1_lasts : mY := (RX1, cX1_lasts, 14, (Option.some .long), 9, 204, false)
theorem YOK_X1_lasts : YOK yX1_lasts 3 := ⟨⟨by decide +kernel, by decide +kernel⟩, by decide +kernel⟩
theorem sX1_lasts_L69_go {G : gG} {s0 sE : St} {rE : Option V3} (this : Nat) (i2 : Int32) (i3 : Int32) (i5 : Option Nat) (i6 : Int32) (i7 : Int64) (i9 : Int32) : ∀ (n : Nat) (s20 : St) (v21 : Int32) (s22 : St), sX1_lasts_L69 this n s20 v21 = some s22 → Go G YX1_lasts s0 sE rE 102 [(0, rV (some this)), (2, iV i2), (3, iV i3), (5, rV i5), (6, iV i6), (7, lV i7), (9, iV i9)] [] s22 → Go G YX1_lasts s0 sE rE 69 [(0, rV (some this)), (2, iV i2), (3, iV i3), (5, rV i5), (6, iV i6), (7, lV i7), (9, iV i9), (10, iV v21)] [] s20 := by
  intro n
  induction n with
  | zero => intro s20 v21 s22 h hx; rw [sX1_lasts_L69] at h; cases h
  | succ n ih =>
    intro s20 v21 s22 h hx
    revert h
    rw [sX1_lasts_L69]
    refine im (go_iload (pc := 69) (Y := YX1_lasts) 7 dX1_lasts_69 rfl) ?_
    refine im (go_aload_n (pc := 71) (Y := YX1_lasts) 0 dX1_lasts_71 rfl rfl) ?_
    refine flp (go_gR (pc := 72) (Y := YX1_lasts) fF1007 (by decide) q220 (Or.inl rfl) dX1_lasts_72) (fun v23 => ?_)
    refine flp (go_aN (pc := 75) (Y := YX1_lasts) dX1_lasts_75) (fun v24 => ?_)
    refine flp2 (go_icmp_ge (pc := 76) (Y := YX1_lasts) 102 dX1_lasts_76 (by decide)) ?_ ?_
    · refine e1 (fun q0 => ?_)
      subst q0
      exact go_sub [0, 1, 2, 3, 4, 5, 6] rfl hx
    · refine im (go_aload_n (pc := 79) (Y := YX1_lasts) 0 dX1_lasts_79 rfl rfl) ?_
      refine flp (go_gR (pc := 80) (Y := YX1_lasts) fF1007 (by decide) q220 (Or.inl rfl) dX1_lasts_80) (fun v25 => ?_)
      refine im (go_iload (pc := 83) (Y := YX1_lasts) 7 dX1_lasts_83 rfl) ?_
      refine im (go_iload (pc := 85) (Y := YX1_lasts) 7 dX1_lasts_85 rfl) ?_
      refine bpg (fun v26 he28 h29 => ?_)
      have hj95 : Go G YX1_lasts s0 sE rE 95 [(0, rV (some this)), (2, iV i2), (3, iV i3), (5, rV i5), (6, iV i6), (7, lV i7), (9, iV i9), (10, iV v21)] [lV v26, iV v21, rV v25] s20 := by
        clear he28
        revert h29
        refine flp (go_tL (pc := 95) (Y := YX1_lasts) dX1_lasts_95) (fun s27 => ?_)
        refine im (go_iinc (pc := 96) (Y := YX1_lasts) 7 (v := (v21 + 1)) (ls2 := [(10, iV (v21 + 1)), (0, rV (some this)), (2, iV i2), (3, iV i3), (5, rV i5), (6, iV i6), (7, lV i7), (9, iV i9)]) dX1_lasts_96 rfl rfl (Nat.le_of_ble_eq_true rfl) rfl) ?_
        refine im (go_goto (pc := 99) (Y := YX1_lasts) 69 dX1_lasts_99 (by decide)) ?_
        exact fun hq => go_sub [1, 2, 3, 4, 5, 6, 7, 0] rfl (ih _ _ _ hq hx)
      clear h29
      revert he28
      refine flp2 (go_if_ne (pc := 87) (Y := YX1_lasts) 94 dX1_lasts_87 (by decide)) ?_ ?_
      · refine im (go_lconst (pc := 90) (Y := YX1_lasts) (v := 1) dX1_lasts_90 rfl) ?_
        refine im (go_goto (pc := 91) (Y := YX1_lasts) 95 dX1_lasts_91 (by decide)) ?_
        refine e1 (fun q0 => ?_)
        subst q0
        exact go_sub [0, 1, 2, 3, 4, 5, 6, 7] rfl hj95
      · refine im (go_lconst (pc := 94) (Y := YX1_lasts) (v := 0) dX1_lasts_94 rfl) ?_
        refine e1 (fun q0 => ?_)
        subst q0
        exact go_sub [0, 1, 2, 3, 4, 5, 6, 7] rfl hj95
theorem sX1_lasts_L186_go {G : gG} {s0 sE : St} {rE : Option V3} (this : Nat) (i2 : Int32) (i3 : Int32) (i5 : Option Nat) (i6 : Int32) (i7 : Int64) (i9 : Int32) (i10 : Int32) : ∀ (n : Nat) (s50 : St) (v51 : Int32) (s52 : St), sX1_lasts_L186 this i9 n s50 v51 = some s52 → Go G YX1_lasts s0 sE rE 275 [(0, rV (some this)), (2, iV i2), (3, iV i3), (5, rV i5), (6, iV i6), (7, lV i7), (9, iV i9), (10, iV i10)] [] s52 → Go G YX1_lasts s0 sE rE 186 [(0, rV (some this)), (2, iV i2), (3, iV i3), (5, rV i5), (6, iV i6), (7, lV i7), (9, iV i9), (10, iV i10), (11, iV v51)] [] s50 := by
  intro n
  induction n with
  | zero => intro s50 v51 s52 h hx; rw [sX1_lasts_L186] at h; cases h
  | succ n ih =>
    intro s50 v51 s52 h hx
    revert h
    rw [sX1_lasts_L186]
    refine im (go_iload (pc := 186) (Y := YX1_lasts) 8 dX1_lasts_186 rfl) ?_
    refine flp2 (go_if_lt (pc := 188) (Y := YX1_lasts) 275 dX1_lasts_188 (by decide)) ?_ ?_
    · refine e1 (fun q0 => ?_)
      subst q0
      exact go_sub [0, 1, 2, 3, 4, 5, 6, 7] rfl hx
    · refine im (go_aload_n (pc := 191) (Y := YX1_lasts) 0 dX1_lasts_191 rfl rfl) ?_
      refine flp (go_gR (pc := 192) (Y := YX1_lasts) fF1007 (by decide) q220 (Or.inl rfl) dX1_lasts_192) (fun v53 => ?_)
      refine im (go_iload (pc := 195) (Y := YX1_lasts) 8 dX1_lasts_195 rfl) ?_
      refine flp (go_lL (pc := 197) (Y := YX1_lasts) dX1_lasts_197) (fun v54 => ?_)
      refine im (go_bipush (pc := 198) (Y := YX1_lasts) (v := 100) dX1_lasts_198 rfl) ?_
      refine im (go_aload_n (pc := 200) (Y := YX1_lasts) 0 dX1_lasts_200 rfl rfl) ?_
      refine flp (go_gR (pc := 201) (Y := YX1_lasts) fF1001 (by decide) q201 (Or.inl rfl) dX1_lasts_201) (fun v55 => ?_)
      refine flp (go_gI (pc := 204) (Y := YX1_lasts) fF49 (by decide) q321 (Or.inl rfl) dX1_lasts_204) (fun v56 => ?_)
      refine im (go_isub (pc := 207) (Y := YX1_lasts) dX1_lasts_207) ?_
      refine im (go_i2l (pc := 208) (Y := YX1_lasts) dX1_lasts_208) ?_
      refine im (go_lmul (pc := 209) (Y := YX1_lasts) dX1_lasts_209) ?_
      refine im (go_iload (pc := 210) (Y := YX1_lasts) 8 dX1_lasts_210 rfl) ?_
      refine bpg (fun v57 he70 h71 => ?_)
      have hj237 : Go G YX1_lasts s0 sE rE 237 [(0, rV (some this)), (2, iV i2), (3, iV i3), (5, rV i5), (6, iV i6), (7, lV i7), (9, iV i9), (10, iV i10), (11, iV v51)] [lV v57, lV (v54 * (Int32.toInt64 (100 - v56)))] s50 := by
        clear he70
        revert h71
        refine im (go_ladd (pc := 237) (Y := YX1_lasts) dX1_lasts_237) ?_
        refine im (go_lstore (pc := 238) (Y := YX1_lasts) (ls2 := [(12, lV ((v54 * (Int32.toInt64 (100 - v56))) + v57)), (0, rV (some this)), (2, iV i2), (3, iV i3), (5, rV i5), (6, iV i6), (7, lV i7), (9, iV i9), (10, iV i10), (11, iV v51)]) dX1_lasts_238 (Nat.le_of_ble_eq_true rfl) rfl) ?_
        refine im (go_aload_n (pc := 240) (Y := YX1_lasts) 1 dX1_lasts_240 rfl rfl) ?_
        refine flp (go_gR (pc := 241) (Y := YX1_lasts) fF1007 (by decide) q220 (Or.inl rfl) dX1_lasts_241) (fun v58 => ?_)
        refine im (go_iload (pc := 244) (Y := YX1_lasts) 9 dX1_lasts_244 rfl) ?_
        refine im (go_aload_n (pc := 246) (Y := YX1_lasts) 1 dX1_lasts_246 rfl rfl) ?_
        refine im (go_iload (pc := 247) (Y := YX1_lasts) 7 dX1_lasts_247 rfl) ?_
        refine kdg (fun k59 => ?_)
        refine bpg (fun v60 he61 => ?_)
        refine im (go_callV (pc := 249) (Y := YX1_lasts) (Yc := YX1_eyesOfAll) (y := yX1_eyesOfAll) (n := 1) (c0 := 0) (q := (RX1, TX1, 25)) this [iV i9] [iV v51, rV v58] rfl rfl k59 (mX1_eyesOfAll s50 he61) YOK_X1_eyesOfAll rfl q1242 q129 q1241 qs39 q1239 (Nat.le_of_ble_eq_true rfl) (Nat.le_of_ble_eq_true rfl) (Nat.le_of_ble_eq_true rfl) dX1_lasts_249 (st2 := [iV v60, iV v51, rV v58]) rfl) ?_
        clear he61
        refine im (go_iconst (pc := 252) (Y := YX1_lasts) (v := 2) dX1_lasts_252 rfl) ?_
        refine im (go_iload (pc := 253) (Y := YX1_lasts) 9 dX1_lasts_253 rfl) ?_
        refine im (go_imul (pc := 255) (Y := YX1_lasts) dX1_lasts_255) ?_
        refine im (go_iadd (pc := 256) (Y := YX1_lasts) dX1_lasts_256) ?_
        refine im (go_bipush (pc := 257) (Y := YX1_lasts) (v := 6) dX1_lasts_257 rfl) ?_
        refine bpg (fun v62 he64 h65 => ?_)
        have hj268 : Go G YX1_lasts s0 sE rE 268 [(0, rV (some this)), (2, iV i2), (3, iV i3), (5, rV i5), (6, iV i6), (7, lV i7), (9, iV i9), (10, iV i10), (11, iV v51)] [lV v62, iV v51, rV v58] s50 := by
          clear he64
          revert h65
          refine flp (go_tL (pc := 268) (Y := YX1_lasts) dX1_lasts_268) (fun s63 => ?_)
          refine im (go_iinc (pc := 269) (Y := YX1_lasts) 8 (v := (v51 + (-1))) (ls2 := [(11, iV (v51 + (-1))), (0, rV (some this)), (2, iV i2), (3, iV i3), (5, rV i5), (6, iV i6), (7, lV i7), (9, iV i9), (10, iV i10)]) dX1_lasts_269 rfl rfl (Nat.le_of_ble_eq_true rfl) rfl) ?_
          refine im (go_goto (pc := 272) (Y := YX1_lasts) 186 dX1_lasts_272 (by decide)) ?_
          exact fun hq => go_sub [1, 2, 3, 4, 5, 6, 7, 8, 0] rfl (ih _ _ _ hq hx)
        clear h65
        revert he64
        refine flp2 (go_icmp_lt (pc := 259) (Y := YX1_lasts) 266 dX1_lasts_259 (by decide)) ?_ ?_
        · refine im (go_lload (pc := 266) (Y := YX1_lasts) 0 dX1_lasts_266 rfl) ?_
          refine e1 (fun q0 => ?_)
          subst q0
          exact go_sub [1, 2, 3, 4, 5, 6, 7, 8, 9] rfl hj268
        · refine im (go_lconst (pc := 262) (Y := YX1_lasts) (v := 0) dX1_lasts_262 rfl) ?_
          refine im (go_goto (pc := 263) (Y := YX1_lasts) 268 dX1_lasts_263 (by decide)) ?_
          refine e1 (fun q0 => ?_)
          subst q0
          exact go_sub [1, 2, 3, 4, 5, 6, 7, 8, 9] rfl hj268
      clear h71
      revert he70
      refine flp2 (go_if_le (pc := 212) (Y := YX1_lasts) 236 dX1_lasts_212 (by decide)) ?_ ?_
      · refine im (go_lconst (pc := 236) (Y := YX1_lasts) (v := 0) dX1_lasts_236 rfl) ?_
        refine e1 (fun q0 => ?_)
        subst q0
        exact go_sub [0, 1, 2, 3, 4, 5, 6, 7, 8] rfl hj237
      · refine im (go_aload_n (pc := 215) (Y := YX1_lasts) 0 dX1_lasts_215 rfl rfl) ?_
        refine flp (go_gR (pc := 216) (Y := YX1_lasts) fF1007 (by decide) q220 (Or.inl rfl) dX1_lasts_216) (fun v66 => ?_)
        refine im (go_iload (pc := 219) (Y := YX1_lasts) 8 dX1_lasts_219 rfl) ?_
        refine im (go_iconst (pc := 221) (Y := YX1_lasts) (v := 1) dX1_lasts_221 rfl) ?_
        refine im (go_isub (pc := 222) (Y := YX1_lasts) dX1_lasts_222) ?_
        refine flp (go_lL (pc := 223) (Y := YX1_lasts) dX1_lasts_223) (fun v67 => ?_)
        refine im (go_aload_n (pc := 224) (Y := YX1_lasts) 0 dX1_lasts_224 rfl rfl) ?_
        refine flp (go_gR (pc := 225) (Y := YX1_lasts) fF1001 (by decide) q201 (Or.inl rfl) dX1_lasts_225) (fun v68 => ?_)
        refine flp (go_gI (pc := 228) (Y := YX1_lasts) fF49 (by decide) q321 (Or.inl rfl) dX1_lasts_228) (fun v69 => ?_)
        refine im (go_i2l (pc := 231) (Y := YX1_lasts) dX1_lasts_231) ?_
        refine im (go_lmul (pc := 232) (Y := YX1_lasts) dX1_lasts_232) ?_
        refine im (go_goto (pc := 233) (Y := YX1_lasts) 237 dX1_lasts_233 (by decide)) ?_
        refine e1 (fun q0 => ?_)
        subst q0
        exact go_sub [0, 1, 2, 3, 4, 5, 6, 7, 8] rfl hj237
theorem sX1_lasts_L105_go {G : gG} {s0 sE : St} {rE : Option V3} (this : Nat) (i2 : Int32) (i3 : Int32) (i5 : Option Nat) (i6 : Int32) : ∀ (n : Nat) (s31 : St) (v32 : Int64) (v33 : Int32) (v34 : Int32) (s35 : St) (v36 : Int64), sX1_lasts_L105 this i2 i5 i6 n s31 v32 v33 v34 = some (s35, v36) → Go G YX1_lasts s0 sE rE 281 [(0, rV (some this)), (3, iV i3), (7, lV v36)] [] s35 → Go G YX1_lasts s0 sE rE 105 [(0, rV (some this)), (2, iV i2), (3, iV i3), (5, rV i5), (6, iV i6), (7, lV v32), (9, iV v33), (10, iV v34)] [] s31 := by
  intro n
  induction n with
  | zero => intro s31 v32 v33 v34 s35 v36 h hx; rw [sX1_lasts_L105] at h; cases h
  | succ n ih =>
    intro s31 v32 v33 v34 s35 v36 h hx
    revert h
    rw [sX1_lasts_L105]
    refine im (go_iload (pc := 105) (Y := YX1_lasts) 7 dX1_lasts_105 rfl) ?_
    refine im (go_iload_n (pc := 107) (Y := YX1_lasts) 1 dX1_lasts_107 rfl rfl) ?_
    refine flp2 (go_icmp_ge (pc := 108) (Y := YX1_lasts) 281 dX1_lasts_108 (by decide)) ?_ ?_
    · refine e2 (fun q0 q1 => ?_)
      subst q0
      subst q1
      exact go_sub [0, 2, 5] rfl hx
    · refine im (go_aload (pc := 111) (Y := YX1_lasts) 3 dX1_lasts_111 rfl) ?_
      refine flp (go_gI (pc := 113) (Y := YX1_lasts) fF74 (by decide) q1005 (Or.inl rfl) dX1_lasts_113) (fun v37 => ?_)
      refine im (go_iload (pc := 116) (Y := YX1_lasts) 7 dX1_lasts_116 rfl) ?_
      refine im (go_iadd (pc := 118) (Y := YX1_lasts) dX1_lasts_118) ?_
      refine im (go_iload (pc := 119) (Y := YX1_lasts) 4 dX1_lasts_119 rfl) ?_
      refine flp2 (go_icmp_gt (pc := 121) (Y := YX1_lasts) 281 dX1_lasts_121 (by decide)) ?_ ?_
      · refine e2 (fun q0 q1 => ?_)
        subst q0
        subst q1
        exact go_sub [0, 2, 5] rfl hx
      · refine im (go_iload (pc := 124) (Y := YX1_lasts) 6 dX1_lasts_124 rfl) ?_
        refine im (go_aload_n (pc := 126) (Y := YX1_lasts) 0 dX1_lasts_126 rfl rfl) ?_
        refine flp (go_gR (pc := 127) (Y := YX1_lasts) fF1002 (by decide) q202 (Or.inl rfl) dX1_lasts_127) (fun v38 => ?_)
        refine im (go_aload (pc := 130) (Y := YX1_lasts) 3 dX1_lasts_130 rfl) ?_
        refine flp (go_gI (pc := 132) (Y := YX1_lasts) fF73 (by decide) q1003 (Or.inl rfl) dX1_lasts_132) (fun v39 => ?_)
        refine im (go_aload (pc := 135) (Y := YX1_lasts) 3 dX1_lasts_135 rfl) ?_
        refine flp (go_gI (pc := 137) (Y := YX1_lasts) fF74 (by decide) q1005 (Or.inl rfl) dX1_lasts_137) (fun v40 => ?_)
        refine im (go_iload (pc := 140) (Y := YX1_lasts) 7 dX1_lasts_140 rfl) ?_
        refine im (go_iadd (pc := 142) (Y := YX1_lasts) dX1_lasts_142) ?_
        refine ivg (fun w41 r42 k43 => ?_)
        refine bpg (fun v44 he45 => ?_)
        refine im (go_callV (pc := 143) (Y := YX1_lasts) (Yc := YX14_watchers) (y := yX14_watchers) (n := 2) (c0 := 16) (q := (RX14, TX14, 4)) w41 [iV v39, iV (v40 + v34)] [iV v33] (by rw [r42]; rfl) rfl k43 (mX14_watchers s31 he45) YOK_X14_watchers rfl q1229 q156 q1227 q1228 q1226 (Nat.le_of_ble_eq_true rfl) (Nat.le_of_ble_eq_true rfl) (Nat.le_of_ble_eq_true rfl) dX1_lasts_143 (st2 := [iV v44, iV v33]) rfl) ?_
        clear he45
        refine im (go_iconst (pc := 146) (Y := YX1_lasts) (v := 1) dX1_lasts_146 rfl) ?_
        refine im (go_aload (pc := 147) (Y := YX1_lasts) 3 dX1_lasts_147 rfl) ?_
        refine flp (go_gI (pc := 149) (Y := YX1_lasts) fF71 (by decide) q999 (Or.inl rfl) dX1_lasts_149) (fun v46 => ?_)
        refine im (go_ishl (pc := 152) (Y := YX1_lasts) dX1_lasts_152) ?_
        refine im (go_iconst (pc := 153) (Y := YX1_lasts) (v := -1) dX1_lasts_153 rfl) ?_
        refine im (go_ixor (pc := 154) (Y := YX1_lasts) dX1_lasts_154) ?_
        refine im (go_iand (pc := 155) (Y := YX1_lasts) dX1_lasts_155) ?_
        refine im (go_iconst (pc := 156) (Y := YX1_lasts) (v := 1) dX1_lasts_156 rfl) ?_
        refine im (go_aload (pc := 157) (Y := YX1_lasts) 3 dX1_lasts_157 rfl) ?_
        refine flp (go_gI (pc := 159) (Y := YX1_lasts) fF72 (by decide) q1001 (Or.inl rfl) dX1_lasts_159) (fun v47 => ?_)
        refine im (go_ishl (pc := 162) (Y := YX1_lasts) dX1_lasts_162) ?_
        refine im (go_iconst (pc := 163) (Y := YX1_lasts) (v := -1) dX1_lasts_163 rfl) ?_
        refine im (go_ixor (pc := 164) (Y := YX1_lasts) dX1_lasts_164) ?_
        refine im (go_iand (pc := 165) (Y := YX1_lasts) dX1_lasts_165) ?_
        refine im (go_ior (pc := 166) (Y := YX1_lasts) dX1_lasts_166) ?_
        refine im (go_istore (pc := 167) (Y := YX1_lasts) (ls2 := [(9, iV (v33 ||| ((v44 &&& (((1 : Int32) <<< (v46 &&& 31)) ^^^ (-1))) &&& (((1 : Int32) <<< (v47 &&& 31)) ^^^ (-1))))), (0, rV (some this)), (2, iV i2), (3, iV i3), (5, rV i5), (6, iV i6), (7, lV v32), (10, iV v34)]) dX1_lasts_167 (Nat.le_of_ble_eq_true rfl) rfl) ?_
        refine im (go_lload (pc := 169) (Y := YX1_lasts) 6 dX1_lasts_169 rfl) ?_
        refine im (go_ldc2 (pc := 171) (Y := YX1_lasts) (v := 100) dX1_lasts_171 q1469) ?_
        refine im (go_lmul (pc := 174) (Y := YX1_lasts) dX1_lasts_174) ?_
        refine im (go_lstore (pc := 175) (Y := YX1_lasts) (ls2 := [(7, lV (v32 * 100)), (9, iV (v33 ||| ((v44 &&& (((1 : Int32) <<< (v46 &&& 31)) ^^^ (-1))) &&& (((1 : Int32) <<< (v47 &&& 31)) ^^^ (-1))))), (0, rV (some this)), (2, iV i2), (3, iV i3), (5, rV i5), (6, iV i6), (10, iV v34)]) dX1_lasts_175 (Nat.le_of_ble_eq_true rfl) rfl) ?_
        refine im (go_aload_n (pc := 177) (Y := YX1_lasts) 2 dX1_lasts_177 rfl rfl) ?_
        refine flp (go_gR (pc := 178) (Y := YX1_lasts) fF1007 (by decide) q220 (Or.inl rfl) dX1_lasts_178) (fun v48 => ?_)
        refine flp (go_aN (pc := 181) (Y := YX1_lasts) dX1_lasts_181) (fun v49 => ?_)
        refine im (go_iconst (pc := 182) (Y := YX1_lasts) (v := 1) dX1_lasts_182 rfl) ?_
        refine im (go_isub (pc := 183) (Y := YX1_lasts) dX1_lasts_183) ?_
        refine im (go_istore (pc := 184) (Y := YX1_lasts) (ls2 := [(11, iV (v49 - 1)), (7, lV (v32 * 100)), (9, iV (v33 ||| ((v44 &&& (((1 : Int32) <<< (v46 &&& 31)) ^^^ (-1))) &&& (((1 : Int32) <<< (v47 &&& 31)) ^^^ (-1))))), (0, rV (some this)), (2, iV i2), (3, iV i3), (5, rV i5), (6, iV i6), (10, iV v34)]) dX1_lasts_184 (Nat.le_of_ble_eq_true rfl) rfl) ?_
        refine bpg (fun s72 he73 h74 => ?_)
        refine go_sub [3, 4, 5, 6, 7, 1, 2, 8, 0] rfl (sX1_lasts_L186_go this i2 i3 i5 i6 (v32 * 100) (v33 ||| ((v44 &&& (((1 : Int32) <<< (v46 &&& 31)) ^^^ (-1))) &&& (((1 : Int32) <<< (v47 &&& 31)) ^^^ (-1)))) v34 FU _ _ _ he73 ?_)
        clear he73
        revert h74
        refine im (go_iinc (pc := 275) (Y := YX1_lasts) 7 (v := (v34 + 1)) (ls2 := [(10, iV (v34 + 1)), (0, rV (some this)), (2, iV i2), (3, iV i3), (5, rV i5), (6, iV i6), (7, lV (v32 * 100)), (9, iV (v33 ||| ((v44 &&& (((1 : Int32) <<< (v46 &&& 31)) ^^^ (-1))) &&& (((1 : Int32) <<< (v47 &&& 31)) ^^^ (-1)))))]) dX1_lasts_275 rfl rfl (Nat.le_of_ble_eq_true rfl) rfl) ?_
        refine im (go_goto (pc := 278) (Y := YX1_lasts) 105 dX1_lasts_278 (by decide)) ?_
        exact fun hq => go_sub [1, 2, 3, 4, 5, 6, 7, 0] rfl (ih _ _ _ _ _ _ hq hx)
theorem sX1_lasts_L287_go {G : gG} {s0 sE : St} {rE : Option V3} (s77 : St) (this : Nat) (i3 : Int32) (i7 : Int64) : ∀ (n : Nat) (v78 : Int64) (v79 : Int32) (v80 : Int64), sX1_lasts_L287 s77 this n v78 v79 = some v80 → Go G YX1_lasts s0 sE rE 315 [(0, rV (some this)), (3, iV i3), (7, lV i7), (10, lV v80)] [] s77 → Go G YX1_lasts s0 sE rE 287 [(0, rV (some this)), (3, iV i3), (7, lV i7), (10, lV v78), (12, iV v79)] [] s77 := by
  intro n
  induction n with
  | zero => intro v78 v79 v80 h hx; rw [sX1_lasts_L287] at h; cases h
  | succ n ih =>
    intro v78 v79 v80 h hx
    revert h
    rw [sX1_lasts_L287]
    refine im (go_iload (pc := 287) (Y := YX1_lasts) 4 dX1_lasts_287 rfl) ?_
    refine im (go_aload_n (pc := 289) (Y := YX1_lasts) 0 dX1_lasts_289 rfl rfl) ?_
    refine flp (go_gR (pc := 290) (Y := YX1_lasts) fF1007 (by decide) q220 (Or.inl rfl) dX1_lasts_290) (fun v81 => ?_)
    refine flp (go_aN (pc := 293) (Y := YX1_lasts) dX1_lasts_293) (fun v82 => ?_)
    refine flp2 (go_icmp_ge (pc := 294) (Y := YX1_lasts) 315 dX1_lasts_294 (by decide)) ?_ ?_
    · refine e1 (fun q0 => ?_)
      subst q0
      exact go_sub [0, 1, 2, 3] rfl hx
    · refine im (go_lload (pc := 297) (Y := YX1_lasts) 3 dX1_lasts_297 rfl) ?_
      refine im (go_aload_n (pc := 299) (Y := YX1_lasts) 0 dX1_lasts_299 rfl rfl) ?_
      refine flp (go_gR (pc := 300) (Y := YX1_lasts) fF1007 (by decide) q220 (Or.inl rfl) dX1_lasts_300) (fun v83 => ?_)
      refine im (go_iload (pc := 303) (Y := YX1_lasts) 4 dX1_lasts_303 rfl) ?_
      refine flp (go_lL (pc := 305) (Y := YX1_lasts) dX1_lasts_305) (fun v84 => ?_)
      refine im (go_ladd (pc := 306) (Y := YX1_lasts) dX1_lasts_306) ?_
      refine im (go_lstore (pc := 307) (Y := YX1_lasts) (ls2 := [(10, lV (v78 + v84)), (0, rV (some this)), (3, iV i3), (7, lV i7), (12, iV v79)]) dX1_lasts_307 (Nat.le_of_ble_eq_true rfl) rfl) ?_
      refine im (go_iinc (pc := 309) (Y := YX1_lasts) 4 (v := (v79 + 1)) (ls2 := [(12, iV (v79 + 1)), (10, lV (v78 + v84)), (0, rV (some this)), (3, iV i3), (7, lV i7)]) dX1_lasts_309 rfl rfl (Nat.le_of_ble_eq_true rfl) rfl) ?_
      refine im (go_goto (pc := 312) (Y := YX1_lasts) 287 dX1_lasts_312 (by decide)) ?_
      exact fun hq => go_sub [2, 3, 4, 1, 0] rfl (ih _ _ _ hq hx)
theorem mX1_lasts {G : gG} (s0 : St) {this : Nat} {p0 : Int32} {p1 : Int32} {p2 : Int32} {sE : St} {vE : Int64} (h : sX1_lasts s0 this p0 p1 p2 = some (sE, vE)) : Mt G YX1_lasts yX1_lasts [rV (some this), iV p0, iV p1, iV p2] s0 (some (lV vE)) sE := by
  refine go_start (ls0 := [(0, rV (some this)), (1, iV p0), (2, iV p1), (3, iV p2)]) (by decide +kernel) rfl (fun h => by cases h) (Nat.le_of_ble_eq_true rfl) rfl ?_
  revert h
  unfold sX1_lasts
  refine im (go_aload_n (pc := 0) (Y := YX1_lasts) 0 dX1_lasts_0 rfl rfl) ?_
  refine im (go_aload_n (pc := 1) (Y := YX1_lasts) 0 dX1_lasts_1 rfl rfl) ?_
  refine im (go_iload_n (pc := 2) (Y := YX1_lasts) 1 dX1_lasts_2 rfl rfl) ?_
  refine kdg (fun k1 => ?_)
  refine bpg (fun v2 he3 => ?_)
  refine im (go_callV (pc := 3) (Y := YX1_lasts) (Yc := YX1_isQuarrel) (y := yX1_isQuarrel) (n := 1) (c0 := 0) (q := (RX1, TX1, 25)) this [iV p0] [rV (some this)] rfl rfl k1 (mX1_isQuarrel s0 he3) YOK_X1_isQuarrel rfl q1184 q129 q1183 qs36 q1181 (Nat.le_of_ble_eq_true rfl) (Nat.le_of_ble_eq_true rfl) (Nat.le_of_ble_eq_true rfl) dX1_lasts_3 (st2 := [iV v2, rV (some this)]) rfl) ?_
  clear he3
  refine im (go_iload_n (pc := 6) (Y := YX1_lasts) 2 dX1_lasts_6 rfl rfl) ?_
  refine im (go_iconst (pc := 7) (Y := YX1_lasts) (v := 0) dX1_lasts_7 rfl) ?_
  refine im (go_bipush (pc := 8) (Y := YX1_lasts) (v := 6) dX1_lasts_8 rfl) ?_
  refine kdg (fun k4 => ?_)
  refine bpg (fun v5 he6 => ?_)
  refine im (go_callV (pc := 10) (Y := YX1_lasts) (Yc := YX1_why) (y := yX1_why) (n := 4) (c0 := 0) (q := (RX1, TX1, 25)) this [iV v2, iV p1, iV 0, iV 6] [] rfl rfl k4 (mX1_why s0 he6) YOK_X1_why rfl q1192 q129 q1191 qs37 q1189 (Nat.le_of_ble_eq_true rfl) (Nat.le_of_ble_eq_true rfl) (Nat.le_of_ble_eq_true rfl) dX1_lasts_10 (st2 := [iV v5]) rfl) ?_
  clear he6
  refine im (go_istore (pc := 13) (Y := YX1_lasts) (ls2 := [(4, iV v5), (0, rV (some this)), (1, iV p0), (2, iV p1), (3, iV p2)]) dX1_lasts_13 (Nat.le_of_ble_eq_true rfl) rfl) ?_
  refine im (go_iload (pc := 15) (Y := YX1_lasts) 0 dX1_lasts_15 rfl) ?_
  refine flp2 (go_if_le (pc := 17) (Y := YX1_lasts) 28 dX1_lasts_17 (by decide)) ?_ ?_
  · refine im (go_aload_n (pc := 28) (Y := YX1_lasts) 1 dX1_lasts_28 rfl rfl) ?_
    refine flp (go_gR (pc := 29) (Y := YX1_lasts) fF1001 (by decide) q201 (Or.inl rfl) dX1_lasts_29) (fun v7 => ?_)
    refine im (go_iload_n (pc := 32) (Y := YX1_lasts) 2 dX1_lasts_32 rfl rfl) ?_
    refine ivg (fun w8 r9 k10 => ?_)
    refine bpg (fun v11 he12 => ?_)
    refine im (go_callV (pc := 33) (Y := YX1_lasts) (Yc := YX5_quarrel) (y := yX5_quarrel) (n := 1) (c0 := 5) (q := (RX5, TX5, 10)) w8 [iV p0] [] (by rw [r9]; rfl) rfl k10 (mX5_quarrel s0 he12) YOK_X5_quarrel rfl q1043 q136 q1041 q1042 q1159 (Nat.le_of_ble_eq_true rfl) (Nat.le_of_ble_eq_true rfl) (Nat.le_of_ble_eq_true rfl) dX1_lasts_33 (st2 := [rV v11]) rfl) ?_
    clear he12
    refine im (go_astore (pc := 36) (Y := YX1_lasts) (ls2 := [(5, rV v11), (4, iV v5), (0, rV (some this)), (1, iV p0), (2, iV p1), (3, iV p2)]) dX1_lasts_36 (Nat.le_of_ble_eq_true rfl) rfl) ?_
    refine im (go_aload_n (pc := 38) (Y := YX1_lasts) 2 dX1_lasts_38 rfl rfl) ?_
    refine im (go_iload_n (pc := 39) (Y := YX1_lasts) 3 dX1_lasts_39 rfl rfl) ?_
    refine kdg (fun k13 => ?_)
    refine bdg (fun s14 v15 he16 => ?_)
    refine im (go_callV (pc := 40) (Y := YX1_lasts) (Yc := YX1_brawlsNow) (y := yX1_brawlsNow) (n := 1) (c0 := 0) (q := (RX1, TX1, 25)) this [iV p0] [] rfl rfl k13 (mX1_brawlsNow s0 he16) YOK_X1_brawlsNow rfl q1262 q129 q1261 qs41 q1259 (Nat.le_of_ble_eq_true rfl) (Nat.le_of_ble_eq_true rfl) (Nat.le_of_ble_eq_true rfl) dX1_lasts_40 (st2 := [iV v15]) rfl) ?_
    clear he16
    refine bpg (fun v17 he18 => ?_)
    refine im (go_callS (pc := 43) (Y := YX1_lasts) (Yc := YX1_isWon) (y := yX1_isWon) (n := 1) [iV v15] [] rfl (mX1_isWon s14 he18) YOK_X1_isWon rfl q1325 q129 q1324 q1323 (Nat.le_of_ble_eq_true rfl) (Nat.le_of_ble_eq_true rfl) (Nat.le_of_ble_eq_true rfl) dX1_lasts_43 (st2 := [iV v17]) rfl) ?_
    clear he18
    refine bpg (fun v19 he97 h98 => ?_)
    have hj58 : Go G YX1_lasts s0 sE (some (lV vE)) 58 [(0, rV (some this)), (2, iV p1), (3, iV p2), (5, rV v11)] [iV v19] s14 := by
      clear he97
      revert h98
      refine im (go_istore (pc := 58) (Y := YX1_lasts) (ls2 := [(6, iV v19), (0, rV (some this)), (2, iV p1), (3, iV p2), (5, rV v11)]) dX1_lasts_58 (Nat.le_of_ble_eq_true rfl) rfl) ?_
      refine im (go_lconst (pc := 60) (Y := YX1_lasts) (v := 1) dX1_lasts_60 rfl) ?_
      refine im (go_lstore (pc := 61) (Y := YX1_lasts) (ls2 := [(7, lV 1), (6, iV v19), (0, rV (some this)), (2, iV p1), (3, iV p2), (5, rV v11)]) dX1_lasts_61 (Nat.le_of_ble_eq_true rfl) rfl) ?_
      refine im (go_iconst (pc := 63) (Y := YX1_lasts) (v := 0) dX1_lasts_63 rfl) ?_
      refine im (go_istore (pc := 64) (Y := YX1_lasts) (ls2 := [(9, iV 0), (7, lV 1), (6, iV v19), (0, rV (some this)), (2, iV p1), (3, iV p2), (5, rV v11)]) dX1_lasts_64 (Nat.le_of_ble_eq_true rfl) rfl) ?_
      refine im (go_iconst (pc := 66) (Y := YX1_lasts) (v := 0) dX1_lasts_66 rfl) ?_
      refine im (go_istore (pc := 67) (Y := YX1_lasts) (ls2 := [(10, iV 0), (9, iV 0), (7, lV 1), (6, iV v19), (0, rV (some this)), (2, iV p1), (3, iV p2), (5, rV v11)]) dX1_lasts_67 (Nat.le_of_ble_eq_true rfl) rfl) ?_
      refine bpg (fun s30 he94 h95 => ?_)
      refine go_sub [4, 5, 6, 7, 3, 2, 1, 0] rfl (sX1_lasts_L69_go this p1 p2 v11 v19 1 0 FU _ _ _ he94 ?_)
      clear he94
      revert h95
      refine im (go_iconst (pc := 102) (Y := YX1_lasts) (v := 0) dX1_lasts_102 rfl) ?_
      refine im (go_istore (pc := 103) (Y := YX1_lasts) (ls2 := [(10, iV 0), (0, rV (some this)), (2, iV p1), (3, iV p2), (5, rV v11), (6, iV v19), (7, lV 1), (9, iV 0)]) dX1_lasts_103 (Nat.le_of_ble_eq_true rfl) rfl) ?_
      refine b2g (fun s75 v76 he92 h93 => ?_)
      refine go_sub [1, 2, 3, 4, 5, 6, 7, 0] rfl (sX1_lasts_L105_go this p1 p2 v11 v19 FU _ _ _ _ _ _ he92 ?_)
      clear he92
      revert h93
      refine im (go_lconst (pc := 281) (Y := YX1_lasts) (v := 0) dX1_lasts_281 rfl) ?_
      refine im (go_lstore (pc := 282) (Y := YX1_lasts) (ls2 := [(10, lV 0), (0, rV (some this)), (3, iV p2), (7, lV v76)]) dX1_lasts_282 (Nat.le_of_ble_eq_true rfl) rfl) ?_
      refine im (go_iconst (pc := 284) (Y := YX1_lasts) (v := 0) dX1_lasts_284 rfl) ?_
      refine im (go_istore (pc := 285) (Y := YX1_lasts) (ls2 := [(12, iV 0), (10, lV 0), (0, rV (some this)), (3, iV p2), (7, lV v76)]) dX1_lasts_285 (Nat.le_of_ble_eq_true rfl) rfl) ?_
      refine bpg (fun v85 he90 h91 => ?_)
      refine go_sub [2, 3, 4, 1, 0] rfl (sX1_lasts_L287_go s75 this p2 v76 FU _ _ _ he90 ?_)
      clear he90
      revert h91
      refine im (go_aload_n (pc := 315) (Y := YX1_lasts) 0 dX1_lasts_315 rfl rfl) ?_
      refine im (go_lload (pc := 316) (Y := YX1_lasts) 3 dX1_lasts_316 rfl) ?_
      refine im (go_lload (pc := 318) (Y := YX1_lasts) 2 dX1_lasts_318 rfl) ?_
      refine im (go_iload_n (pc := 320) (Y := YX1_lasts) 1 dX1_lasts_320 rfl rfl) ?_
      refine kdg (fun k86 => ?_)
      refine bdg (fun s87 v88 he89 => ?_)
      refine im (go_callV (pc := 321) (Y := YX1_lasts) (Yc := YX1_fraction) (y := yX1_fraction) (n := 3) (c0 := 0) (q := (RX1, TX1, 25)) this [lV v85, lV v76, iV p2] [] rfl rfl k86 (mX1_fraction s75 he89) YOK_X1_fraction rfl q1431 q129 q1430 qs55 q1428 (Nat.le_of_ble_eq_true rfl) (Nat.le_of_ble_eq_true rfl) (Nat.le_of_ble_eq_true rfl) dX1_lasts_321 (st2 := [lV v88]) rfl) ?_
      clear he89
      refine e2 (fun q0 q1 => ?_)
      subst q0
      subst q1
      exact go_lret (pc := 324) (Y := YX1_lasts) rfl dX1_lasts_324
    clear h98
    revert he97
    refine flp2 (go_if_eq (pc := 46) (Y := YX1_lasts) 56 dX1_lasts_46 (by decide)) ?_ ?_
    · refine im (go_bipush (pc := 56) (Y := YX1_lasts) (v := 59) dX1_lasts_56 rfl) ?_
      refine e1 (fun q0 => ?_)
      subst q0
      exact go_sub [2, 4, 5, 0] rfl hj58
    · refine im (go_aload_n (pc := 49) (Y := YX1_lasts) 2 dX1_lasts_49 rfl rfl) ?_
      refine flp (go_gI (pc := 50) (Y := YX1_lasts) fF7 (by decide) q209 (Or.inl rfl) dX1_lasts_50) (fun v96 => ?_)
      refine im (go_goto (pc := 53) (Y := YX1_lasts) 58 dX1_lasts_53 (by decide)) ?_
      refine e1 (fun q0 => ?_)
      subst q0
      exact go_sub [2, 4, 5, 0] rfl hj58
  · refine im (go_aload_n (pc := 20) (Y := YX1_lasts) 1 dX1_lasts_20 rfl rfl) ?_
    refine im (go_iload (pc := 21) (Y := YX1_lasts) 0 dX1_lasts_21 rfl) ?_
    refine kdg (fun k99 => ?_)
    refine bdg (fun s100 v101 he102 => ?_)
    refine im (go_callV (pc := 23) (Y := YX1_lasts) (Yc := YX1_refused) (y := yX1_refused) (n := 1) (c0 := 0) (q := (RX1, TX1, 25)) this [iV v5] [] rfl rfl k99 (mX1_refused s0 he102) YOK_X1_refused rfl q288 q129 q287 qs0 q285 (Nat.le_of_ble_eq_true rfl) (Nat.le_of_ble_eq_true rfl) (Nat.le_of_ble_eq_true rfl) dX1_lasts_23 (st2 := [iV v101]) rfl) ?_
    clear he102
    refine im (go_i2l (pc := 26) (Y := YX1_lasts) dX1_lasts_26) ?_
    refine e2 (fun q0 q1 => ?_)
    subst q0
    subst q1
    exact go_lret (pc := 27) (Y := YX1_lasts) rfl dX1_lasts_27
abbrev YX1_whySeed : mY := (RX1, cX1_whySeed, 3, (Option.some .int), 3, 61, false)
theorem YOK_X1_whySeed : YOK yX1_whySeed 2 := ⟨⟨by decide +kernel, by decide +kernel⟩, by decide +kernel⟩
theorem mX1_whySeed {G : gG} (s0 : St) {this : Nat} {p0 : Int32} {p1 : Int32} {vE : Int32} (h : sX1_whySeed s0 this p0 p1 = some vE) : Mt G YX1_whySeed yX1_whySeed [rV (some this), iV p0, iV p1] s0 (some (iV vE)) s0 := by
  refine go_start (ls0 := [(0, rV (some this)), (1, iV p0), (2, iV p1)]) (by decide +kernel) rfl (fun h => by cases h) (Nat.le_of_ble_eq_true rfl) rfl ?_
  revert h
  unfold sX1_whySeed
  refine im (go_aload_n (pc := 0) (Y := YX1_whySeed) 0 dX1_whySeed_0 rfl rfl) ?_
  refine im (go_aload_n (pc := 1) (Y := YX1_whySeed) 0 dX1_whySeed_1 rfl rfl) ?_
  refine im (go_iload_n (pc := 2) (Y := YX1_whySeed) 1 dX1_whySeed_2 rfl rfl) ?_
  refine kdg (fun k1 => ?_)
  refine bpg (fun v2 he3 => ?_)
  refine im (go_callV (pc := 3) (Y := YX1_whySeed) (Yc := YX1_isQuarrel) (y := yX1_isQuarrel) (n := 1) (c0 := 0) (q := (RX1, TX1, 25)) this [iV p0] [rV (some this)] rfl rfl k1 (mX1_isQuarrel s0 he3) YOK_X1_isQuarrel rfl q1184 q129 q1183 qs36 q1181 (Nat.le_of_ble_eq_true rfl) (Nat.le_of_ble_eq_true rfl) (Nat.le_of_ble_eq_true rfl) dX1_whySeed_3 (st2 := [iV v2, rV (some this)]) rfl) ?_
  clear he3
  refine im (go_iload_n (pc := 6) (Y := YX1_whySeed) 2 dX1_whySeed_6 rfl rfl) ?_
  refine im (go_iconst (pc := 7) (Y := YX1_whySeed) (v := 0) dX1_whySeed_7 rfl) ?_
  refine im (go_ldcwI (pc := 8) (Y := YX1_whySeed) (v := 65536) dX1_whySeed_8 q1478) ?_
  refine kdg (fun k4 => ?_)
  refine bpg (fun v5 he6 => ?_)
  refine im (go_callV (pc := 11) (Y := YX1_whySeed) (Yc := YX1_why) (y := yX1_why) (n := 4) (c0 := 0) (q := (RX1, TX1, 25)) this [iV v2, iV p1, iV 0, iV 65536] [] rfl rfl k4 (mX1_why s0 he6) YOK_X1_why rfl q1192 q129 q1191 qs37 q1189 (Nat.le_of_ble_eq_true rfl) (Nat.le_of_ble_eq_true rfl) (Nat.le_of_ble_eq_true rfl) dX1_whySeed_11 (st2 := [iV v5]) rfl) ?_
  clear he6
  refine e1 (fun q0 => ?_)
  subst q0
  exact go_iret (pc := 14) (Y := YX1_whySeed) rfl dX1_whySeed_14
abbrev YX1_brawlsBy : mY := (RX1, cX1_brawlsBy, 3, (Option.some .int), 9, 204, false)
theorem YOK_X1_brawlsBy : YOK yX1_brawlsBy 1 := ⟨⟨by decide +kernel, by decide +kernel⟩, by decide +kernel⟩
theorem mX1_brawlsBy {G : gG} (s0 : St) {this : Nat} {p0 : Int32} {sE : St} {vE : Int32} (h : sX1_brawlsBy s0 this p0 = some (sE, vE)) : Mt G YX1_brawlsBy yX1_brawlsBy [rV (some this), iV p0] s0 (some (iV vE)) sE := by
  refine go_start (ls0 := [(0, rV (some this)), (1, iV p0)]) (by decide +kernel) rfl (fun h => by cases h) (Nat.le_of_ble_eq_true rfl) rfl ?_
  revert h
  unfold sX1_brawlsBy
  refine im (go_aload_n (pc := 0) (Y := YX1_brawlsBy) 0 dX1_brawlsBy_0 rfl rfl) ?_
  refine im (go_iconst (pc := 1) (Y := YX1_brawlsBy) (v := 1) dX1_brawlsBy_1 rfl) ?_
  refine flp (go_pI (pc := 2) (Y := YX1_brawlsBy) fF12 (by decide) q214 (Or.inl rfl) (Or.inl rfl) rfl rfl rfl dX1_brawlsBy_2) (fun s1 => ?_)
  refine im (go_aload_n (pc := 5) (Y := YX1_brawlsBy) 0 dX1_brawlsBy_5 rfl rfl) ?_
  refine im (go_iload_n (pc := 6) (Y := YX1_brawlsBy) 1 dX1_brawlsBy_6 rfl rfl) ?_
  refine kdg (fun k2 => ?_)
  refine bdg (fun s3 v4 he5 => ?_)
  refine im (go_callV (pc := 7) (Y := YX1_brawlsBy) (Yc := YX1_brawlsNow) (y := yX1_brawlsNow) (n := 1) (c0 := 0) (q := (RX1, TX1, 25)) this [iV p0] [] rfl rfl k2 (mX1_brawlsNow s1 he5) YOK_X1_brawlsNow rfl q1262 q129 q1261 qs41 q1259 (Nat.le_of_ble_eq_true rfl) (Nat.le_of_ble_eq_true rfl) (Nat.le_of_ble_eq_true rfl) dX1_brawlsBy_7 (st2 := [iV v4]) rfl) ?_
  clear he5
  refine im (go_istore_n (pc := 10) (Y := YX1_brawlsBy) (ls2 := [(2, iV v4), (0, rV (some this)), (1, iV p0)]) dX1_brawlsBy_10 rfl (Nat.le_of_ble_eq_true rfl) rfl) ?_
  refine im (go_aload_n (pc := 11) (Y := YX1_brawlsBy) 1 dX1_brawlsBy_11 rfl rfl) ?_
  refine im (go_iconst (pc := 12) (Y := YX1_brawlsBy) (v := 0) dX1_brawlsBy_12 rfl) ?_
  refine flp (go_pI (pc := 13) (Y := YX1_brawlsBy) fF12 (by decide) q214 (Or.inl rfl) (Or.inl rfl) rfl rfl rfl dX1_brawlsBy_13) (fun s6 => ?_)
  refine im (go_iload_n (pc := 16) (Y := YX1_brawlsBy) 0 dX1_brawlsBy_16 rfl rfl) ?_
  refine e2 (fun q0 q1 => ?_)
  subst q0
  subst q1
  exact go_iret (pc := 17) (Y := YX1_brawlsBy) rfl dX1_brawlsBy_17
abbrev YX1_endsBy : mY := (RX1, cX1_endsBy, 4, (Option.some .int), 10, 226, false)
theorem YOK_X1_endsBy : YOK yX1_endsBy 2 := ⟨⟨by decide +kernel, by decide +kernel⟩, by decide +kernel⟩
theorem mX1_endsBy {G : gG} (s0 : St) {this : Nat} {p0 : Int32} {p1 : Int32} {sE : St} {vE : Int32} (h : sX1_endsBy s0 this p0 p1 = some (sE, vE)) : Mt G YX1_endsBy yX1_endsBy [rV (some this), iV p0, iV p1] s0 (some (iV vE)) sE := by
  refine go_start (ls0 := [(0, rV (some this)), (1, iV p0), (2, iV p1)]) (by decide +kernel) rfl (fun h => by cases h) (Nat.le_of_ble_eq_true rfl) rfl ?_
  revert h
  unfold sX1_endsBy
  refine im (go_aload_n (pc := 0) (Y := YX1_endsBy) 0 dX1_endsBy_0 rfl rfl) ?_
  refine im (go_iload_n (pc := 1) (Y := YX1_endsBy) 1 dX1_endsBy_1 rfl rfl) ?_
  refine im (go_iload_n (pc := 2) (Y := YX1_endsBy) 2 dX1_endsBy_2 rfl rfl) ?_
  refine kdg (fun k1 => ?_)
  refine bpg (fun v2 he3 => ?_)
  refine im (go_callV (pc := 3) (Y := YX1_endsBy) (Yc := YX1_whySeed) (y := yX1_whySeed) (n := 2) (c0 := 0) (q := (RX1, TX1, 25)) this [iV p0, iV p1] [] rfl rfl k1 (mX1_whySeed s0 he3) YOK_X1_whySeed rfl q1477 q129 q1476 qs58 q1474 (Nat.le_of_ble_eq_true rfl) (Nat.le_of_ble_eq_true rfl) (Nat.le_of_ble_eq_true rfl) dX1_endsBy_3 (st2 := [iV v2]) rfl) ?_
  clear he3
  refine im (go_istore_n (pc := 6) (Y := YX1_endsBy) (ls2 := [(3, iV v2), (0, rV (some this)), (1, iV p0), (2, iV p1)]) dX1_endsBy_6 rfl (Nat.le_of_ble_eq_true rfl) rfl) ?_
  refine im (go_iload_n (pc := 7) (Y := YX1_endsBy) 0 dX1_endsBy_7 rfl rfl) ?_
  refine flp2 (go_if_le (pc := 8) (Y := YX1_endsBy) 17 dX1_endsBy_8 (by decide)) ?_ ?_
  · refine im (go_aload_n (pc := 17) (Y := YX1_endsBy) 1 dX1_endsBy_17 rfl rfl) ?_
    refine im (go_iload_n (pc := 18) (Y := YX1_endsBy) 3 dX1_endsBy_18 rfl rfl) ?_
    refine flp (go_pI (pc := 19) (Y := YX1_endsBy) fF11 (by decide) q213 (Or.inl rfl) (Or.inl rfl) rfl rfl rfl dX1_endsBy_19) (fun s4 => ?_)
    refine im (go_aload_n (pc := 22) (Y := YX1_endsBy) 1 dX1_endsBy_22 rfl rfl) ?_
    refine im (go_aload_n (pc := 23) (Y := YX1_endsBy) 1 dX1_endsBy_23 rfl rfl) ?_
    refine im (go_iload_n (pc := 24) (Y := YX1_endsBy) 2 dX1_endsBy_24 rfl rfl) ?_
    refine kdg (fun k5 => ?_)
    refine bdg (fun s6 v7 he8 => ?_)
    refine im (go_callV (pc := 25) (Y := YX1_endsBy) (Yc := YX1_brawlsBy) (y := yX1_brawlsBy) (n := 1) (c0 := 0) (q := (RX1, TX1, 25)) this [iV p0] [rV (some this)] rfl rfl k5 (mX1_brawlsBy s4 he8) YOK_X1_brawlsBy rfl q1482 q129 q1481 qs59 q1479 (Nat.le_of_ble_eq_true rfl) (Nat.le_of_ble_eq_true rfl) (Nat.le_of_ble_eq_true rfl) dX1_endsBy_25 (st2 := [iV v7, rV (some this)]) rfl) ?_
    clear he8
    refine kdg (fun k9 => ?_)
    refine bdg (fun s10 v11 he12 => ?_)
    refine im (go_callV (pc := 28) (Y := YX1_endsBy) (Yc := YX1_well) (y := yX1_well) (n := 1) (c0 := 0) (q := (RX1, TX1, 25)) this [iV v7] [] rfl rfl k9 (mX1_well s6 he12) YOK_X1_well rfl q1102 q129 q1101 qs29 q1099 (Nat.le_of_ble_eq_true rfl) (Nat.le_of_ble_eq_true rfl) (Nat.le_of_ble_eq_true rfl) dX1_endsBy_28 (st2 := [iV v11]) rfl) ?_
    clear he12
    refine e2 (fun q0 q1 => ?_)
    subst q0
    subst q1
    exact go_iret (pc := 31) (Y := YX1_endsBy) rfl dX1_endsBy_31
  · refine im (go_aload_n (pc := 11) (Y := YX1_endsBy) 1 dX1_endsBy_11 rfl rfl) ?_
    refine im (go_iload_n (pc := 12) (Y := YX1_endsBy) 0 dX1_endsBy_12 rfl rfl) ?_
    refine kdg (fun k13 => ?_)
    refine bdg (fun s14 v15 he16 => ?_)
    refine im (go_callV (pc := 13) (Y := YX1_endsBy) (Yc := YX1_refused) (y := yX1_refused) (n := 1) (c0 := 0) (q := (RX1, TX1, 25)) this [iV v2] [] rfl rfl k13 (mX1_refused s0 he16) YOK_X1_refused rfl q288 q129 q287 qs0 q285 (Nat.le_of_ble_eq_true rfl) (Nat.le_of_ble_eq_true rfl) (Nat.le_of_ble_eq_true rfl) dX1_endsBy_13 (st2 := [iV v15]) rfl) ?_
    clear he16
    refine e2 (fun q0 q1 => ?_)
    subst q0
    subst q1
    exact go_iret (pc := 16) (Y := YX1_endsBy) rfl dX1_endsBy_16
abbrev YX1_endsByAt : mY := (RX1, cX1_endsByAt, 4, (Option.some .int), 10, 226, false)
theorem YOK_X1_endsByAt : YOK yX1_endsByAt 2 := ⟨⟨by decide +kernel, by decide +kernel⟩, by decide +kernel⟩
theorem mX1_endsByAt {G : gG} (s0 : St) {this : Nat} {p0 : Int32} {p1 : Int32} {sE : St} {vE : Int32} (h : sX1_endsByAt s0 this p0 p1 = some (sE, vE)) : Mt G YX1_endsByAt yX1_endsByAt [rV (some this), iV p0, iV p1] s0 (some (iV vE)) sE := by
  refine go_start (ls0 := [(0, rV (some this)), (1, iV p0), (2, iV p1)]) (by decide +kernel) rfl (fun h => by cases h) (Nat.le_of_ble_eq_true rfl) rfl ?_
  revert h
  unfold sX1_endsByAt
  refine im (go_aload_n (pc := 0) (Y := YX1_endsByAt) 0 dX1_endsByAt_0 rfl rfl) ?_
  refine im (go_iload_n (pc := 1) (Y := YX1_endsByAt) 1 dX1_endsByAt_1 rfl rfl) ?_
  refine im (go_iload_n (pc := 2) (Y := YX1_endsByAt) 2 dX1_endsByAt_2 rfl rfl) ?_
  refine kdg (fun k1 => ?_)
  refine bpg (fun v2 he3 => ?_)
  refine im (go_callV (pc := 3) (Y := YX1_endsByAt) (Yc := YX1_whySeed) (y := yX1_whySeed) (n := 2) (c0 := 0) (q := (RX1, TX1, 25)) this [iV p0, iV p1] [] rfl rfl k1 (mX1_whySeed s0 he3) YOK_X1_whySeed rfl q1477 q129 q1476 qs58 q1474 (Nat.le_of_ble_eq_true rfl) (Nat.le_of_ble_eq_true rfl) (Nat.le_of_ble_eq_true rfl) dX1_endsByAt_3 (st2 := [iV v2]) rfl) ?_
  clear he3
  refine im (go_istore_n (pc := 6) (Y := YX1_endsByAt) (ls2 := [(3, iV v2), (0, rV (some this)), (1, iV p0), (2, iV p1)]) dX1_endsByAt_6 rfl (Nat.le_of_ble_eq_true rfl) rfl) ?_
  refine im (go_iload_n (pc := 7) (Y := YX1_endsByAt) 0 dX1_endsByAt_7 rfl rfl) ?_
  refine flp2 (go_if_le (pc := 8) (Y := YX1_endsByAt) 17 dX1_endsByAt_8 (by decide)) ?_ ?_
  · refine im (go_aload_n (pc := 17) (Y := YX1_endsByAt) 1 dX1_endsByAt_17 rfl rfl) ?_
    refine im (go_iload_n (pc := 18) (Y := YX1_endsByAt) 3 dX1_endsByAt_18 rfl rfl) ?_
    refine flp (go_pI (pc := 19) (Y := YX1_endsByAt) fF11 (by decide) q213 (Or.inl rfl) (Or.inl rfl) rfl rfl rfl dX1_endsByAt_19) (fun s4 => ?_)
    refine im (go_aload_n (pc := 22) (Y := YX1_endsByAt) 1 dX1_endsByAt_22 rfl rfl) ?_
    refine im (go_iload_n (pc := 23) (Y := YX1_endsByAt) 2 dX1_endsByAt_23 rfl rfl) ?_
    refine kdg (fun k5 => ?_)
    refine bdg (fun s6 v7 he8 => ?_)
    refine im (go_callV (pc := 24) (Y := YX1_endsByAt) (Yc := YX1_brawlsBy) (y := yX1_brawlsBy) (n := 1) (c0 := 0) (q := (RX1, TX1, 25)) this [iV p0] [] rfl rfl k5 (mX1_brawlsBy s4 he8) YOK_X1_brawlsBy rfl q1482 q129 q1481 qs59 q1479 (Nat.le_of_ble_eq_true rfl) (Nat.le_of_ble_eq_true rfl) (Nat.le_of_ble_eq_true rfl) dX1_endsByAt_24 (st2 := [iV v7]) rfl) ?_
    clear he8
    refine im (go_pop (pc := 27) (Y := YX1_endsByAt) dX1_endsByAt_27 rfl) ?_
    refine im (go_aload_n (pc := 28) (Y := YX1_endsByAt) 1 dX1_endsByAt_28 rfl rfl) ?_
    refine im (go_aload_n (pc := 29) (Y := YX1_endsByAt) 1 dX1_endsByAt_29 rfl rfl) ?_
    refine flp (go_gI (pc := 30) (Y := YX1_endsByAt) fF7 (by decide) q209 (Or.inl rfl) dX1_endsByAt_30) (fun v9 => ?_)
    refine kdg (fun k10 => ?_)
    refine bdg (fun s11 v12 he13 => ?_)
    refine im (go_callV (pc := 33) (Y := YX1_endsByAt) (Yc := YX1_well) (y := yX1_well) (n := 1) (c0 := 0) (q := (RX1, TX1, 25)) this [iV v9] [] rfl rfl k10 (mX1_well s6 he13) YOK_X1_well rfl q1102 q129 q1101 qs29 q1099 (Nat.le_of_ble_eq_true rfl) (Nat.le_of_ble_eq_true rfl) (Nat.le_of_ble_eq_true rfl) dX1_endsByAt_33 (st2 := [iV v12]) rfl) ?_
    clear he13
    refine e2 (fun q0 q1 => ?_)
    subst q0
    subst q1
    exact go_iret (pc := 36) (Y := YX1_endsByAt) rfl dX1_endsByAt_36
  · refine im (go_aload_n (pc := 11) (Y := YX1_endsByAt) 1 dX1_endsByAt_11 rfl rfl) ?_
    refine im (go_iload_n (pc := 12) (Y := YX1_endsByAt) 0 dX1_endsByAt_12 rfl rfl) ?_
    refine kdg (fun k14 => ?_)
    refine bdg (fun s15 v16 he17 => ?_)
    refine im (go_callV (pc := 13) (Y := YX1_endsByAt) (Yc := YX1_refused) (y := yX1_refused) (n := 1) (c0 := 0) (q := (RX1, TX1, 25)) this [iV v2] [] rfl rfl k14 (mX1_refused s0 he17) YOK_X1_refused rfl q288 q129 q287 qs0 q285 (Nat.le_of_ble_eq_true rfl) (Nat.le_of_ble_eq_true rfl) (Nat.le_of_ble_eq_true rfl) dX1_endsByAt_13 (st2 := [iV v16]) rfl) ?_
    clear he17
    refine e2 (fun q0 q1 => ?_)
    subst q0
    subst q1
    exact go_iret (pc := 16) (Y := YX1_endsByAt) rfl dX1_endsByAt_16
abbrev YX1_wins : mY := (RX1, cX1_wins, 7, (Option.some .int), 10, 226, false)
theorem YOK_X1_wins : YOK yX1_wins 3 := ⟨⟨by decide +kernel, by decide +kernel⟩, by decide +kernel⟩
theorem sX1_wins_L47_go {G : gG} {s0 sE : St} {rE : Option V3} (this : Nat) (i1 : Int32) (i3 : Int32) : ∀ (n : Nat) (s6 : St) (v7 : Int32) (v8 : Int32) (s9 : St) (v10 : Int32), sX1_wins_L47 this i1 i3 n s6 v7 v8 = some (s9, v10) → Go G YX1_wins s0 sE rE 80 [(0, rV (some this)), (5, iV v10)] [] s9 → Go G YX1_wins s0 sE rE 47 [(0, rV (some this)), (1, iV i1), (3, iV i3), (5, iV v7), (6, iV v8)] [] s6 := by
  intro n
  induction n with
  | zero => intro s6 v7 v8 s9 v10 h hx; rw [sX1_wins_L47] at h; cases h
  | succ n ih =>
    intro s6 v7 v8 s9 v10 h hx
    revert h
    rw [sX1_wins_L47]
    refine im (go_iload (pc := 47) (Y := YX1_wins) 4 dX1_wins_47 rfl) ?_
    refine im (go_iload_n (pc := 49) (Y := YX1_wins) 2 dX1_wins_49 rfl rfl) ?_
    refine flp2 (go_icmp_ge (pc := 50) (Y := YX1_wins) 80 dX1_wins_50 (by decide)) ?_ ?_
    · refine e2 (fun q0 q1 => ?_)
      subst q0
      subst q1
      exact go_sub [0, 3] rfl hx
    · refine im (go_iload (pc := 53) (Y := YX1_wins) 3 dX1_wins_53 rfl) ?_
      refine im (go_aload_n (pc := 55) (Y := YX1_wins) 0 dX1_wins_55 rfl rfl) ?_
      refine im (go_iload_n (pc := 56) (Y := YX1_wins) 1 dX1_wins_56 rfl rfl) ?_
      refine kdg (fun k11 => ?_)
      refine bdg (fun s12 v13 he14 => ?_)
      refine im (go_callV (pc := 57) (Y := YX1_wins) (Yc := YX1_brawlsBy) (y := yX1_brawlsBy) (n := 1) (c0 := 0) (q := (RX1, TX1, 25)) this [iV i1] [iV v7] rfl rfl k11 (mX1_brawlsBy s6 he14) YOK_X1_brawlsBy rfl q1482 q129 q1481 qs59 q1479 (Nat.le_of_ble_eq_true rfl) (Nat.le_of_ble_eq_true rfl) (Nat.le_of_ble_eq_true rfl) dX1_wins_57 (st2 := [iV v13, iV v7]) rfl) ?_
      clear he14
      refine bpg (fun v15 he16 => ?_)
      refine im (go_callS (pc := 60) (Y := YX1_wins) (Yc := YX1_isWon) (y := yX1_isWon) (n := 1) [iV v13] [iV v7] rfl (mX1_isWon s12 he16) YOK_X1_isWon rfl q1325 q129 q1324 q1323 (Nat.le_of_ble_eq_true rfl) (Nat.le_of_ble_eq_true rfl) (Nat.le_of_ble_eq_true rfl) dX1_wins_60 (st2 := [iV v15, iV v7]) rfl) ?_
      clear he16
      refine bpg (fun v17 he18 h19 => ?_)
      have hj71 : Go G YX1_wins s0 sE rE 71 [(0, rV (some this)), (1, iV i1), (3, iV i3), (6, iV v8)] [iV v17, iV v7] s12 := by
        clear he18
        revert h19
        refine im (go_iadd (pc := 71) (Y := YX1_wins) dX1_wins_71) ?_
        refine im (go_istore (pc := 72) (Y := YX1_wins) (ls2 := [(5, iV (v7 + v17)), (0, rV (some this)), (1, iV i1), (3, iV i3), (6, iV v8)]) dX1_wins_72 (Nat.le_of_ble_eq_true rfl) rfl) ?_
        refine im (go_iinc (pc := 74) (Y := YX1_wins) 4 (v := (v8 + 1)) (ls2 := [(6, iV (v8 + 1)), (5, iV (v7 + v17)), (0, rV (some this)), (1, iV i1), (3, iV i3)]) dX1_wins_74 rfl rfl (Nat.le_of_ble_eq_true rfl) rfl) ?_
        refine im (go_goto (pc := 77) (Y := YX1_wins) 47 dX1_wins_77 (by decide)) ?_
        exact fun hq => go_sub [2, 3, 4, 1, 0] rfl (ih _ _ _ _ _ hq hx)
      clear h19
      revert he18
      refine flp2 (go_if_eq (pc := 63) (Y := YX1_wins) 70 dX1_wins_63 (by decide)) ?_ ?_
      · refine im (go_iconst (pc := 70) (Y := YX1_wins) (v := 0) dX1_wins_70 rfl) ?_
        refine e1 (fun q0 => ?_)
        subst q0
        exact go_sub [0, 1, 2, 4] rfl hj71
      · refine im (go_iconst (pc := 66) (Y := YX1_wins) (v := 1) dX1_wins_66 rfl) ?_
        refine im (go_goto (pc := 67) (Y := YX1_wins) 71 dX1_wins_67 (by decide)) ?_
        refine e1 (fun q0 => ?_)
        subst q0
        exact go_sub [0, 1, 2, 4] rfl hj71
theorem mX1_wins {G : gG} (s0 : St) {this : Nat} {p0 : Int32} {p1 : Int32} {p2 : Int32} {sE : St} {vE : Int32} (h : sX1_wins s0 this p0 p1 p2 = some (sE, vE)) : Mt G YX1_wins yX1_wins [rV (some this), iV p0, iV p1, iV p2] s0 (some (iV vE)) sE := by
  refine go_start (ls0 := [(0, rV (some this)), (1, iV p0), (2, iV p1), (3, iV p2)]) (by decide +kernel) rfl (fun h => by cases h) (Nat.le_of_ble_eq_true rfl) rfl ?_
  revert h
  unfold sX1_wins
  refine im (go_aload_n (pc := 0) (Y := YX1_wins) 0 dX1_wins_0 rfl rfl) ?_
  refine im (go_iload_n (pc := 1) (Y := YX1_wins) 1 dX1_wins_1 rfl rfl) ?_
  refine im (go_iload_n (pc := 2) (Y := YX1_wins) 2 dX1_wins_2 rfl rfl) ?_
  refine kdg (fun k1 => ?_)
  refine bpg (fun v2 he3 => ?_)
  refine im (go_callV (pc := 3) (Y := YX1_wins) (Yc := YX1_whySeed) (y := yX1_whySeed) (n := 2) (c0 := 0) (q := (RX1, TX1, 25)) this [iV p0, iV p1] [] rfl rfl k1 (mX1_whySeed s0 he3) YOK_X1_whySeed rfl q1477 q129 q1476 qs58 q1474 (Nat.le_of_ble_eq_true rfl) (Nat.le_of_ble_eq_true rfl) (Nat.le_of_ble_eq_true rfl) dX1_wins_3 (st2 := [iV v2]) rfl) ?_
  clear he3
  refine im (go_istore (pc := 6) (Y := YX1_wins) (ls2 := [(4, iV v2), (0, rV (some this)), (1, iV p0), (2, iV p1), (3, iV p2)]) dX1_wins_6 (Nat.le_of_ble_eq_true rfl) rfl) ?_
  refine im (go_iload (pc := 8) (Y := YX1_wins) 0 dX1_wins_8 rfl) ?_
  refine bpg (fun v4 he35 h36 => ?_)
  have hj24 : Go G YX1_wins s0 sE (some (iV vE)) 24 [(0, rV (some this)), (1, iV p0), (2, iV p1), (3, iV p2), (4, iV v4)] [] s0 := by
    clear he35
    revert h36
    refine im (go_iload (pc := 24) (Y := YX1_wins) 4 dX1_wins_24 rfl) ?_
    refine flp2 (go_if_le (pc := 26) (Y := YX1_wins) 36 dX1_wins_26 (by decide)) ?_ ?_
    · refine im (go_aload_n (pc := 36) (Y := YX1_wins) 0 dX1_wins_36 rfl rfl) ?_
      refine im (go_iload_n (pc := 37) (Y := YX1_wins) 2 dX1_wins_37 rfl rfl) ?_
      refine flp (go_pI (pc := 38) (Y := YX1_wins) fF11 (by decide) q213 (Or.inl rfl) (Or.inl rfl) rfl rfl rfl dX1_wins_38) (fun s5 => ?_)
      refine im (go_iconst (pc := 41) (Y := YX1_wins) (v := 0) dX1_wins_41 rfl) ?_
      refine im (go_istore (pc := 42) (Y := YX1_wins) (ls2 := [(5, iV 0), (0, rV (some this)), (1, iV p0), (2, iV p1), (3, iV p2), (4, iV v4)]) dX1_wins_42 (Nat.le_of_ble_eq_true rfl) rfl) ?_
      refine im (go_iconst (pc := 44) (Y := YX1_wins) (v := 0) dX1_wins_44 rfl) ?_
      refine im (go_istore (pc := 45) (Y := YX1_wins) (ls2 := [(6, iV 0), (5, iV 0), (0, rV (some this)), (1, iV p0), (2, iV p1), (3, iV p2), (4, iV v4)]) dX1_wins_45 (Nat.le_of_ble_eq_true rfl) rfl) ?_
      refine b2g (fun s20 v21 he26 h27 => ?_)
      refine go_sub [2, 3, 5, 1, 0] rfl (sX1_wins_L47_go this p0 p2 FU _ _ _ _ _ he26 ?_)
      clear he26
      revert h27
      refine im (go_aload_n (pc := 80) (Y := YX1_wins) 0 dX1_wins_80 rfl rfl) ?_
      refine im (go_iload (pc := 81) (Y := YX1_wins) 1 dX1_wins_81 rfl) ?_
      refine kdg (fun k22 => ?_)
      refine bdg (fun s23 v24 he25 => ?_)
      refine im (go_callV (pc := 83) (Y := YX1_wins) (Yc := YX1_well) (y := yX1_well) (n := 1) (c0 := 0) (q := (RX1, TX1, 25)) this [iV v21] [] rfl rfl k22 (mX1_well s20 he25) YOK_X1_well rfl q1102 q129 q1101 qs29 q1099 (Nat.le_of_ble_eq_true rfl) (Nat.le_of_ble_eq_true rfl) (Nat.le_of_ble_eq_true rfl) dX1_wins_83 (st2 := [iV v24]) rfl) ?_
      clear he25
      refine e2 (fun q0 q1 => ?_)
      subst q0
      subst q1
      exact go_iret (pc := 86) (Y := YX1_wins) rfl dX1_wins_86
    · refine im (go_aload_n (pc := 29) (Y := YX1_wins) 0 dX1_wins_29 rfl rfl) ?_
      refine im (go_iload (pc := 30) (Y := YX1_wins) 4 dX1_wins_30 rfl) ?_
      refine kdg (fun k28 => ?_)
      refine bdg (fun s29 v30 he31 => ?_)
      refine im (go_callV (pc := 32) (Y := YX1_wins) (Yc := YX1_refused) (y := yX1_refused) (n := 1) (c0 := 0) (q := (RX1, TX1, 25)) this [iV v4] [] rfl rfl k28 (mX1_refused s0 he31) YOK_X1_refused rfl q288 q129 q287 qs0 q285 (Nat.le_of_ble_eq_true rfl) (Nat.le_of_ble_eq_true rfl) (Nat.le_of_ble_eq_true rfl) dX1_wins_32 (st2 := [iV v30]) rfl) ?_
      clear he31
      refine e2 (fun q0 q1 => ?_)
      subst q0
      subst q1
      exact go_iret (pc := 35) (Y := YX1_wins) rfl dX1_wins_35
  clear h36
  revert he35
  refine flp2 (go_if_ne (pc := 10) (Y := YX1_wins) 24 dX1_wins_10 (by decide)) ?_ ?_
  · refine im (go_aload_n (pc := 13) (Y := YX1_wins) 1 dX1_wins_13 rfl rfl) ?_
    refine im (go_iconst (pc := 14) (Y := YX1_wins) (v := 1) dX1_wins_14 rfl) ?_
    refine im (go_iload_n (pc := 15) (Y := YX1_wins) 4 dX1_wins_15 rfl rfl) ?_
    refine im (go_iconst (pc := 16) (Y := YX1_wins) (v := 0) dX1_wins_16 rfl) ?_
    refine im (go_bipush (pc := 17) (Y := YX1_wins) (v := 30) dX1_wins_17 rfl) ?_
    refine kdg (fun k32 => ?_)
    refine bpg (fun v33 he34 => ?_)
    refine im (go_callV (pc := 19) (Y := YX1_wins) (Yc := YX1_why) (y := yX1_why) (n := 4) (c0 := 0) (q := (RX1, TX1, 25)) this [iV 1, iV p2, iV 0, iV 30] [] rfl rfl k32 (mX1_why s0 he34) YOK_X1_why rfl q1192 q129 q1191 qs37 q1189 (Nat.le_of_ble_eq_true rfl) (Nat.le_of_ble_eq_true rfl) (Nat.le_of_ble_eq_true rfl) dX1_wins_19 (st2 := [iV v33]) rfl) ?_
    clear he34
    refine im (go_istore (pc := 22) (Y := YX1_wins) (ls2 := [(4, iV v33), (0, rV (some this)), (1, iV p0), (2, iV p1), (3, iV p2)]) dX1_wins_22 (Nat.le_of_ble_eq_true rfl) rfl) ?_
    refine e1 (fun q0 => ?_)
    subst q0
    exact go_sub [1, 2, 3, 4, 0] rfl hj24
  · refine e1 (fun q0 => ?_)
    subst q0
    exact go_sub [1, 2, 3, 4, 0] rfl hj24
abbrev YX1_denied : mY := (RX1, cX1_denied, 2, (Option.some .boolean), 1, 21, false)
theorem YOK_X1_denied : YOK yX1_denied 1 := ⟨⟨by decide +kernel, by decide +kernel⟩, by decide +kernel⟩
theorem mX1_denied {G : gG} (s0 : St) {this : Nat} {p0 : Int32} {sE : St} {vE : Int32} (h : sX1_denied s0 this p0 = some (sE, vE)) : Mt G YX1_denied yX1_denied [rV (some this), iV p0] s0 (some (iV vE)) sE := by
  refine go_start (ls0 := [(0, rV (some this)), (1, iV p0)]) (by decide +kernel) rfl (fun h => by cases h) (Nat.le_of_ble_eq_true rfl) rfl ?_
  revert h
  unfold sX1_denied
  refine im (go_aload_n (pc := 0) (Y := YX1_denied) 0 dX1_denied_0 rfl rfl) ?_
  refine im (go_iload_n (pc := 1) (Y := YX1_denied) 1 dX1_denied_1 rfl rfl) ?_
  refine kdg (fun k1 => ?_)
  refine bdg (fun s2 v3 he4 => ?_)
  refine im (go_callV (pc := 2) (Y := YX1_denied) (Yc := YX1_refused) (y := yX1_refused) (n := 1) (c0 := 0) (q := (RX1, TX1, 25)) this [iV p0] [] rfl rfl k1 (mX1_refused s0 he4) YOK_X1_refused rfl q288 q129 q287 qs0 q285 (Nat.le_of_ble_eq_true rfl) (Nat.le_of_ble_eq_true rfl) (Nat.le_of_ble_eq_true rfl) dX1_denied_2 (st2 := [iV v3]) rfl) ?_
  clear he4
  refine im (go_pop (pc := 5) (Y := YX1_denied) dX1_denied_5 rfl) ?_
  refine im (go_iconst (pc := 6) (Y := YX1_denied) (v := 0) dX1_denied_6 rfl) ?_
  refine e2 (fun q0 q1 => ?_)
  subst q0
  subst q1
  exact go_zret (pc := 7) (Y := YX1_denied) rfl rfl dX1_denied_7
abbrev YX1_remembers : mY := (RX1, cX1_remembers, 1, (Option.none : Option Jvm.ClassFile.FieldType), 7, 157, false)
theorem YOK_X1_remembers : YOK yX1_remembers 0 := ⟨⟨by decide +kernel, by decide +kernel⟩, by decide +kernel⟩
theorem mX1_remembers {G : gG} (s0 : St) {this : Nat} {sE : St} (h : sX1_remembers s0 this = some sE) : Mt G YX1_remembers yX1_remembers [rV (some this)] s0 none sE := by
  refine go_start (ls0 := [(0, rV (some this))]) (by decide +kernel) rfl (fun h => by cases h) (Nat.le_of_ble_eq_true rfl) rfl ?_
  revert h
  unfold sX1_remembers
  refine im (go_aload_n (pc := 0) (Y := YX1_remembers) 0 dX1_remembers_0 rfl rfl) ?_
  refine flp (go_gR (pc := 1) (Y := YX1_remembers) fF1004 (by decide) q204 (Or.inl rfl) dX1_remembers_1) (fun v1 => ?_)
  refine ivg (fun w2 r3 k4 => ?_)
  refine bpg (fun v5 he6 => ?_)
  refine im (go_callV (pc := 4) (Y := YX1_remembers) (Yc := YJ2_size) (y := yJ2_size) (n := 0) (c0 := 1) (q := (RJ2, TJ2, 3)) w2 [] [] (by rw [r3]; rfl) rfl k4 (mJ2_size s0 he6) YOK_J2_size rfl q733 q132 q731 q732 q1098 (Nat.le_of_ble_eq_true rfl) (Nat.le_of_ble_eq_true rfl) (Nat.le_of_ble_eq_true rfl) dX1_remembers_4 (st2 := [iV v5]) rfl) ?_
  clear he6
  refine im (go_bipush (pc := 7) (Y := YX1_remembers) (v := 16) dX1_remembers_7 rfl) ?_
  refine bpg (fun s7 he31 h32 => ?_)
  have hj21 : Go G YX1_remembers s0 sE none 21 [(0, rV (some this))] [] s7 := by
    clear he31
    revert h32
    refine im (go_aload_n (pc := 21) (Y := YX1_remembers) 0 dX1_remembers_21 rfl rfl) ?_
    refine flp (go_gR (pc := 22) (Y := YX1_remembers) fF1004 (by decide) q204 (Or.inl rfl) dX1_remembers_22) (fun v8 => ?_)
    refine im (go_aload_n (pc := 25) (Y := YX1_remembers) 0 dX1_remembers_25 rfl rfl) ?_
    refine flp (go_gR (pc := 26) (Y := YX1_remembers) fF1002 (by decide) q202 (Or.inl rfl) dX1_remembers_26) (fun v9 => ?_)
    refine ivg (fun w10 r11 k12 => ?_)
    refine bdg (fun s13 v14 he15 => ?_)
    refine im (go_callV (pc := 29) (Y := YX1_remembers) (Yc := YJ2_add) (y := yJ2_add) (n := 1) (c0 := 1) (q := (RJ2, TJ2, 3)) w10 [rV v9] [] (by rw [r11]; rfl) rfl k12 (mJ2_add s7 he15) YOK_J2_add rfl q792 q132 q790 q791 q1516 (Nat.le_of_ble_eq_true rfl) (Nat.le_of_ble_eq_true rfl) (Nat.le_of_ble_eq_true rfl) dX1_remembers_29 (st2 := [iV v14]) rfl) ?_
    clear he15
    refine im (go_pop (pc := 32) (Y := YX1_remembers) dX1_remembers_32 rfl) ?_
    refine im (go_aload_n (pc := 33) (Y := YX1_remembers) 0 dX1_remembers_33 rfl rfl) ?_
    refine im (go_aload_n (pc := 34) (Y := YX1_remembers) 0 dX1_remembers_34 rfl rfl) ?_
    refine flp (go_gR (pc := 35) (Y := YX1_remembers) fF1002 (by decide) q202 (Or.inl rfl) dX1_remembers_35) (fun v16 => ?_)
    refine ivg (fun w17 r18 k19 => ?_)
    refine bdg (fun s20 v21 he22 => ?_)
    refine im (go_callV (pc := 38) (Y := YX1_remembers) (Yc := YX14_copy) (y := yX14_copy) (n := 0) (c0 := 16) (q := (RX14, TX14, 4)) w17 [] [rV (some this)] (by rw [r18]; rfl) rfl k19 (mX14_copy s13 he22) YOK_X14_copy rfl q1082 q156 q1080 q1081 q1079 (Nat.le_of_ble_eq_true rfl) (Nat.le_of_ble_eq_true rfl) (Nat.le_of_ble_eq_true rfl) dX1_remembers_38 (st2 := [rV v21, rV (some this)]) rfl) ?_
    clear he22
    refine flp (go_pR (pc := 41) (Y := YX1_remembers) fF1002 (by decide) q202 (Or.inl rfl) (Or.inl rfl) rfl (Or.inl ⟨_, rfl⟩) dX1_remembers_41) (fun s23 => ?_)
    refine e1 (fun q0 => ?_)
    subst q0
    exact go_vret (pc := 44) (Y := YX1_remembers) rfl dX1_remembers_44
  clear h32
  revert he31
  refine flp2 (go_icmp_ne (pc := 9) (Y := YX1_remembers) 21 dX1_remembers_9 (by decide)) ?_ ?_
  · refine im (go_aload_n (pc := 12) (Y := YX1_remembers) 0 dX1_remembers_12 rfl rfl) ?_
    refine flp (go_gR (pc := 13) (Y := YX1_remembers) fF1004 (by decide) q204 (Or.inl rfl) dX1_remembers_13) (fun v24 => ?_)
    refine im (go_iconst (pc := 16) (Y := YX1_remembers) (v := 0) dX1_remembers_16 rfl) ?_
    refine ivg (fun w25 r26 k27 => ?_)
    refine bdg (fun s28 v29 he30 => ?_)
    refine im (go_callV (pc := 17) (Y := YX1_remembers) (Yc := YJ2_remove) (y := yJ2_remove) (n := 1) (c0 := 1) (q := (RJ2, TJ2, 3)) w25 [iV 0] [] (by rw [r26]; rfl) rfl k27 (mJ2_remove s0 he30) YOK_J2_remove rfl q1510 q132 q1508 q1509 q1507 (Nat.le_of_ble_eq_true rfl) (Nat.le_of_ble_eq_true rfl) (Nat.le_of_ble_eq_true rfl) dX1_remembers_17 (st2 := [rV v29]) rfl) ?_
    clear he30
    refine im (go_pop (pc := 20) (Y := YX1_remembers) dX1_remembers_20 rfl) ?_
    refine e1 (fun q0 => ?_)
    subst q0
    exact go_sub [0] rfl hj21
  · refine e1 (fun q0 => ?_)
    subst q0
    exact go_sub [0] rfl hj21
abbrev YX1_granted : mY := (RX1, cX1_granted, 1, (Option.some .boolean), 1, 21, false)
theorem YOK_X1_granted : YOK yX1_granted 0 := ⟨⟨by decide +kernel, by decide +kernel⟩, by decide +kernel⟩
theorem mX1_granted {G : gG} (s0 : St) {this : Nat} {sE : St} {vE : Int32} (h : sX1_granted s0 this = some (sE, vE)) : Mt G YX1_granted yX1_granted [rV (some this)] s0 (some (iV vE)) sE := by
  refine go_start (ls0 := [(0, rV (some this))]) (by decide +kernel) rfl (fun h => by cases h) (Nat.le_of_ble_eq_true rfl) rfl ?_
  revert h
  unfold sX1_granted
  refine im (go_aload_n (pc := 0) (Y := YX1_granted) 0 dX1_granted_0 rfl rfl) ?_
  refine im (go_iconst (pc := 1) (Y := YX1_granted) (v := 0) dX1_granted_1 rfl) ?_
  refine kdg (fun k1 => ?_)
  refine bdg (fun s2 v3 he4 => ?_)
  refine im (go_callV (pc := 2) (Y := YX1_granted) (Yc := YX1_well) (y := yX1_well) (n := 1) (c0 := 0) (q := (RX1, TX1, 25)) this [iV 0] [] rfl rfl k1 (mX1_well s0 he4) YOK_X1_well rfl q1102 q129 q1101 qs29 q1099 (Nat.le_of_ble_eq_true rfl) (Nat.le_of_ble_eq_true rfl) (Nat.le_of_ble_eq_true rfl) dX1_granted_2 (st2 := [iV v3]) rfl) ?_
  clear he4
  refine im (go_pop (pc := 5) (Y := YX1_granted) dX1_granted_5 rfl) ?_
  refine im (go_iconst (pc := 6) (Y := YX1_granted) (v := 1) dX1_granted_6 rfl) ?_
  refine e2 (fun q0 q1 => ?_)
  subst q0
  subst q1
  exact go_zret (pc := 7) (Y := YX1_granted) rfl rfl dX1_granted_7
abbrev YX1_bricksUp : mY := (RX1, cX1_bricksUp, 3, (Option.some .boolean), 8, 177, false)
theorem YOK_X1_bricksUp : YOK yX1_bricksUp 2 := ⟨⟨by decide +kernel, by decide +kernel⟩, by decide +kernel⟩
theorem mX1_bricksUp {G : gG} (s0 : St) {this : Nat} {p0 : Int32} {p1 : Int32} {sE : St} {vE : Int32} (h : sX1_bricksUp s0 this p0 p1 = some (sE, vE)) : Mt G YX1_bricksUp yX1_bricksUp [rV (some this), iV p0, iV p1] s0 (some (iV vE)) sE := by
  refine go_start (ls0 := [(0, rV (some this)), (1, iV p0), (2, iV p1)]) (by decide +kernel) rfl (fun h => by cases h) (Nat.le_of_ble_eq_true rfl) rfl ?_
  revert h
  unfold sX1_bricksUp
  refine im (go_aload_n (pc := 0) (Y := YX1_bricksUp) 0 dX1_bricksUp_0 rfl rfl) ?_
  refine im (go_iload_n (pc := 1) (Y := YX1_bricksUp) 1 dX1_bricksUp_1 rfl rfl) ?_
  refine kdg (fun k1 => ?_)
  refine bpg (fun v2 he3 => ?_)
  refine im (go_callV (pc := 2) (Y := YX1_bricksUp) (Yc := YX1_isSight) (y := yX1_isSight) (n := 1) (c0 := 0) (q := (RX1, TX1, 25)) this [iV p0] [] rfl rfl k1 (mX1_isSight s0 he3) YOK_X1_isSight rfl q1167 q129 q1166 qs34 q1164 (Nat.le_of_ble_eq_true rfl) (Nat.le_of_ble_eq_true rfl) (Nat.le_of_ble_eq_true rfl) dX1_bricksUp_2 (st2 := [iV v2]) rfl) ?_
  clear he3
  refine flp2 (go_if_ne (pc := 5) (Y := YX1_bricksUp) 14 dX1_bricksUp_5 (by decide)) ?_ ?_
  · refine im (go_aload_n (pc := 8) (Y := YX1_bricksUp) 0 dX1_bricksUp_8 rfl rfl) ?_
    refine im (go_iconst (pc := 9) (Y := YX1_bricksUp) (v := 1) dX1_bricksUp_9 rfl) ?_
    refine kdg (fun k4 => ?_)
    refine bdg (fun s5 v6 he7 => ?_)
    refine im (go_callV (pc := 10) (Y := YX1_bricksUp) (Yc := YX1_denied) (y := yX1_denied) (n := 1) (c0 := 0) (q := (RX1, TX1, 25)) this [iV 1] [] rfl rfl k4 (mX1_denied s0 he7) YOK_X1_denied rfl q1502 q129 q1501 qs61 q1499 (Nat.le_of_ble_eq_true rfl) (Nat.le_of_ble_eq_true rfl) (Nat.le_of_ble_eq_true rfl) dX1_bricksUp_10 (st2 := [iV v6]) rfl) ?_
    clear he7
    refine okg (fun z8 => ?_)
    refine e2 (fun q0 q1 => ?_)
    subst q0
    subst q1
    exact go_zret (pc := 13) (Y := YX1_bricksUp) rfl (okZ_nar z8).1 dX1_bricksUp_13
  · refine im (go_aload_n (pc := 14) (Y := YX1_bricksUp) 0 dX1_bricksUp_14 rfl rfl) ?_
    refine flp (go_gR (pc := 15) (Y := YX1_bricksUp) fF1002 (by decide) q202 (Or.inl rfl) dX1_bricksUp_15) (fun v9 => ?_)
    refine flp (go_gI (pc := 18) (Y := YX1_bricksUp) fF77 (by decide) q1063 (Or.inl rfl) dX1_bricksUp_18) (fun v10 => ?_)
    refine im (go_iload_n (pc := 21) (Y := YX1_bricksUp) 1 dX1_bricksUp_21 rfl rfl) ?_
    refine bpg (fun v11 he12 => ?_)
    refine im (go_callS (pc := 22) (Y := YX1_bricksUp) (Yc := YX1_has) (y := yX1_has) (n := 2) [iV v10, iV p0] [] rfl (mX1_has s0 he12) YOK_X1_has rfl q1176 q129 q1175 q1174 (Nat.le_of_ble_eq_true rfl) (Nat.le_of_ble_eq_true rfl) (Nat.le_of_ble_eq_true rfl) dX1_bricksUp_22 (st2 := [iV v11]) rfl) ?_
    clear he12
    refine im (go_iload_n (pc := 25) (Y := YX1_bricksUp) 2 dX1_bricksUp_25 rfl rfl) ?_
    refine flp2 (go_icmp_ne (pc := 26) (Y := YX1_bricksUp) 35 dX1_bricksUp_26 (by decide)) ?_ ?_
    · refine im (go_aload_n (pc := 29) (Y := YX1_bricksUp) 0 dX1_bricksUp_29 rfl rfl) ?_
      refine im (go_iconst (pc := 30) (Y := YX1_bricksUp) (v := 5) dX1_bricksUp_30 rfl) ?_
      refine kdg (fun k13 => ?_)
      refine bdg (fun s14 v15 he16 => ?_)
      refine im (go_callV (pc := 31) (Y := YX1_bricksUp) (Yc := YX1_denied) (y := yX1_denied) (n := 1) (c0 := 0) (q := (RX1, TX1, 25)) this [iV 5] [] rfl rfl k13 (mX1_denied s0 he16) YOK_X1_denied rfl q1502 q129 q1501 qs61 q1499 (Nat.le_of_ble_eq_true rfl) (Nat.le_of_ble_eq_true rfl) (Nat.le_of_ble_eq_true rfl) dX1_bricksUp_31 (st2 := [iV v15]) rfl) ?_
      clear he16
      refine okg (fun z17 => ?_)
      refine e2 (fun q0 q1 => ?_)
      subst q0
      subst q1
      exact go_zret (pc := 34) (Y := YX1_bricksUp) rfl (okZ_nar z17).1 dX1_bricksUp_34
    · refine im (go_aload_n (pc := 35) (Y := YX1_bricksUp) 0 dX1_bricksUp_35 rfl rfl) ?_
      refine kdg (fun k18 => ?_)
      refine bpg (fun s19 he20 => ?_)
      refine im (go_callV (pc := 36) (Y := YX1_bricksUp) (Yc := YX1_remembers) (y := yX1_remembers) (n := 0) (c0 := 0) (q := (RX1, TX1, 25)) this [] [] rfl rfl k18 (mX1_remembers s0 he20) YOK_X1_remembers rfl q1506 q129 q1505 qs62 q1503 (Nat.le_of_ble_eq_true rfl) (Nat.le_of_ble_eq_true rfl) (Nat.le_of_ble_eq_true rfl) dX1_bricksUp_36 (st2 := []) rfl) ?_
      clear he20
      refine im (go_aload_n (pc := 39) (Y := YX1_bricksUp) 0 dX1_bricksUp_39 rfl rfl) ?_
      refine flp (go_gR (pc := 40) (Y := YX1_bricksUp) fF1002 (by decide) q202 (Or.inl rfl) dX1_bricksUp_40) (fun v21 => ?_)
      refine im (go_dup (pc := 43) (Y := YX1_bricksUp) dX1_bricksUp_43 rfl) ?_
      refine flp (go_gI (pc := 44) (Y := YX1_bricksUp) fF77 (by decide) q1063 (Or.inl rfl) dX1_bricksUp_44) (fun v22 => ?_)
      refine im (go_iconst (pc := 47) (Y := YX1_bricksUp) (v := 1) dX1_bricksUp_47 rfl) ?_
      refine im (go_iload_n (pc := 48) (Y := YX1_bricksUp) 1 dX1_bricksUp_48 rfl rfl) ?_
      refine im (go_ishl (pc := 49) (Y := YX1_bricksUp) dX1_bricksUp_49) ?_
      refine im (go_ixor (pc := 50) (Y := YX1_bricksUp) dX1_bricksUp_50) ?_
      refine flp (go_pI (pc := 51) (Y := YX1_bricksUp) fF77 (by decide) q1063 (Or.inl rfl) (Or.inl rfl) rfl rfl rfl dX1_bricksUp_51) (fun s23 => ?_)
      refine im (go_aload_n (pc := 54) (Y := YX1_bricksUp) 0 dX1_bricksUp_54 rfl rfl) ?_
      refine kdg (fun k24 => ?_)
      refine bdg (fun s25 v26 he27 => ?_)
      refine im (go_callV (pc := 55) (Y := YX1_bricksUp) (Yc := YX1_granted) (y := yX1_granted) (n := 0) (c0 := 0) (q := (RX1, TX1, 25)) this [] [] rfl rfl k24 (mX1_granted s23 he27) YOK_X1_granted rfl q1520 q129 q1519 qs64 q1517 (Nat.le_of_ble_eq_true rfl) (Nat.le_of_ble_eq_true rfl) (Nat.le_of_ble_eq_true rfl) dX1_bricksUp_55 (st2 := [iV v26]) rfl) ?_
      clear he27
      refine okg (fun z28 => ?_)
      refine e2 (fun q0 q1 => ?_)
      subst q0
      subst q1
      exact go_zret (pc := 58) (Y := YX1_bricksUp) rfl (okZ_nar z28).1 dX1_bricksUp_58
abbrev YX1_brick : mY := (RX1, cX1_brick, 2, (Option.some .boolean), 9, 199, false)
theorem YOK_X1_brick : YOK yX1_brick 1 := ⟨⟨by decide +kernel, by decide +kernel⟩, by decide +kernel⟩
theorem mX1_brick {G : gG} (s0 : St) {this : Nat} {p0 : Int32} {sE : St} {vE : Int32} (h : sX1_brick s0 this p0 = some (sE, vE)) : Mt G YX1_brick yX1_brick [rV (some this), iV p0] s0 (some (iV vE)) sE := by
  refine go_start (ls0 := [(0, rV (some this)), (1, iV p0)]) (by decide +kernel) rfl (fun h => by cases h) (Nat.le_of_ble_eq_true rfl) rfl ?_
  revert h
  unfold sX1_brick
  refine im (go_aload_n (pc := 0) (Y := YX1_brick) 0 dX1_brick_0 rfl rfl) ?_
  refine im (go_iload_n (pc := 1) (Y := YX1_brick) 1 dX1_brick_1 rfl rfl) ?_
  refine im (go_iconst (pc := 2) (Y := YX1_brick) (v := 1) dX1_brick_2 rfl) ?_
  refine kdg (fun k1 => ?_)
  refine bdg (fun s2 v3 he4 => ?_)
  refine im (go_callV (pc := 3) (Y := YX1_brick) (Yc := YX1_bricksUp) (y := yX1_bricksUp) (n := 2) (c0 := 0) (q := (RX1, TX1, 25)) this [iV p0, iV 1] [] rfl rfl k1 (mX1_bricksUp s0 he4) YOK_X1_bricksUp rfl q1498 q129 q1497 qs60 q1495 (Nat.le_of_ble_eq_true rfl) (Nat.le_of_ble_eq_true rfl) (Nat.le_of_ble_eq_true rfl) dX1_brick_3 (st2 := [iV v3]) rfl) ?_
  clear he4
  refine okg (fun z5 => ?_)
  refine e2 (fun q0 q1 => ?_)
  subst q0
  subst q1
  exact go_zret (pc := 6) (Y := YX1_brick) rfl (okZ_nar z5).1 dX1_brick_6
abbrev YX1_open : mY := (RX1, cX1_open, 2, (Option.some .boolean), 9, 199, false)
theorem YOK_X1_open : YOK yX1_open 1 := ⟨⟨by decide +kernel, by decide +kernel⟩, by decide +kernel⟩
theorem mX1_open {G : gG} (s0 : St) {this : Nat} {p0 : Int32} {sE : St} {vE : Int32} (h : sX1_open s0 this p0 = some (sE, vE)) : Mt G YX1_open yX1_open [rV (some this), iV p0] s0 (some (iV vE)) sE := by
  refine go_start (ls0 := [(0, rV (some this)), (1, iV p0)]) (by decide +kernel) rfl (fun h => by cases h) (Nat.le_of_ble_eq_true rfl) rfl ?_
  revert h
  unfold sX1_open
  refine im (go_aload_n (pc := 0) (Y := YX1_open) 0 dX1_open_0 rfl rfl) ?_
  refine im (go_iload_n (pc := 1) (Y := YX1_open) 1 dX1_open_1 rfl rfl) ?_
  refine im (go_iconst (pc := 2) (Y := YX1_open) (v := 0) dX1_open_2 rfl) ?_
  refine kdg (fun k1 => ?_)
  refine bdg (fun s2 v3 he4 => ?_)
  refine im (go_callV (pc := 3) (Y := YX1_open) (Yc := YX1_bricksUp) (y := yX1_bricksUp) (n := 2) (c0 := 0) (q := (RX1, TX1, 25)) this [iV p0, iV 0] [] rfl rfl k1 (mX1_bricksUp s0 he4) YOK_X1_bricksUp rfl q1498 q129 q1497 qs60 q1495 (Nat.le_of_ble_eq_true rfl) (Nat.le_of_ble_eq_true rfl) (Nat.le_of_ble_eq_true rfl) dX1_open_3 (st2 := [iV v3]) rfl) ?_
  clear he4
  refine okg (fun z5 => ?_)
  refine e2 (fun q0 q1 => ?_)
  subst q0
  subst q1
  exact go_zret (pc := 6) (Y := YX1_open) rfl (okZ_nar z5).1 dX1_open_6
abbrev YX1_hire : mY := (RX1, cX1_hire, 4, (Option.some .int), 8, 177, false)
theorem YOK_X1_hire : YOK yX1_hire 2 := ⟨⟨by decide +kernel, by decide +kernel⟩, by decide +kernel⟩
theorem mX1_hire {G : gG} (s0 : St) {this : Nat} {p0 : Int32} {p1 : Int32} {sE : St} {vE : Int32} (h : sX1_hire s0 this p0 p1 = some (sE, vE)) : Mt G YX1_hire yX1_hire [rV (some this), iV p0, iV p1] s0 (some (iV vE)) sE := by
  refine go_start (ls0 := [(0, rV (some this)), (1, iV p0), (2, iV p1)]) (by decide +kernel) rfl (fun h => by cases h) (Nat.le_of_ble_eq_true rfl) rfl ?_
  revert h
  unfold sX1_hire
  refine im (go_aload_n (pc := 0) (Y := YX1_hire) 0 dX1_hire_0 rfl rfl) ?_
  refine im (go_iload_n (pc := 1) (Y := YX1_hire) 1 dX1_hire_1 rfl rfl) ?_
  refine kdg (fun k1 => ?_)
  refine bpg (fun v2 he3 => ?_)
  refine im (go_callV (pc := 2) (Y := YX1_hire) (Yc := YX1_isPerson) (y := yX1_isPerson) (n := 1) (c0 := 0) (q := (RX1, TX1, 25)) this [iV p0] [] rfl rfl k1 (mX1_isPerson s0 he3) YOK_X1_isPerson rfl q1118 q129 q1117 qs30 q1115 (Nat.le_of_ble_eq_true rfl) (Nat.le_of_ble_eq_true rfl) (Nat.le_of_ble_eq_true rfl) dX1_hire_2 (st2 := [iV v2]) rfl) ?_
  clear he3
  refine flp2 (go_if_eq (pc := 5) (Y := YX1_hire) 16 dX1_hire_5 (by decide)) ?_ ?_
  · refine im (go_aload_n (pc := 16) (Y := YX1_hire) 0 dX1_hire_16 rfl rfl) ?_
    refine im (go_iconst (pc := 17) (Y := YX1_hire) (v := 1) dX1_hire_17 rfl) ?_
    refine kdg (fun k4 => ?_)
    refine bdg (fun s5 v6 he7 => ?_)
    refine im (go_callV (pc := 18) (Y := YX1_hire) (Yc := YX1_refused) (y := yX1_refused) (n := 1) (c0 := 0) (q := (RX1, TX1, 25)) this [iV 1] [] rfl rfl k4 (mX1_refused s0 he7) YOK_X1_refused rfl q288 q129 q287 qs0 q285 (Nat.le_of_ble_eq_true rfl) (Nat.le_of_ble_eq_true rfl) (Nat.le_of_ble_eq_true rfl) dX1_hire_18 (st2 := [iV v6]) rfl) ?_
    clear he7
    refine e2 (fun q0 q1 => ?_)
    subst q0
    subst q1
    exact go_iret (pc := 21) (Y := YX1_hire) rfl dX1_hire_21
  · refine im (go_aload_n (pc := 8) (Y := YX1_hire) 0 dX1_hire_8 rfl rfl) ?_
    refine im (go_iload_n (pc := 9) (Y := YX1_hire) 2 dX1_hire_9 rfl rfl) ?_
    refine kdg (fun k8 => ?_)
    refine bpg (fun v9 he10 => ?_)
    refine im (go_callV (pc := 10) (Y := YX1_hire) (Yc := YX1_isPlace) (y := yX1_isPlace) (n := 1) (c0 := 0) (q := (RX1, TX1, 25)) this [iV p1] [] rfl rfl k8 (mX1_isPlace s0 he10) YOK_X1_isPlace rfl q1213 q129 q1212 qs38 q1210 (Nat.le_of_ble_eq_true rfl) (Nat.le_of_ble_eq_true rfl) (Nat.le_of_ble_eq_true rfl) dX1_hire_10 (st2 := [iV v9]) rfl) ?_
    clear he10
    refine flp2 (go_if_ne (pc := 13) (Y := YX1_hire) 22 dX1_hire_13 (by decide)) ?_ ?_
    · refine im (go_aload_n (pc := 16) (Y := YX1_hire) 0 dX1_hire_16 rfl rfl) ?_
      refine im (go_iconst (pc := 17) (Y := YX1_hire) (v := 1) dX1_hire_17 rfl) ?_
      refine kdg (fun k11 => ?_)
      refine bdg (fun s12 v13 he14 => ?_)
      refine im (go_callV (pc := 18) (Y := YX1_hire) (Yc := YX1_refused) (y := yX1_refused) (n := 1) (c0 := 0) (q := (RX1, TX1, 25)) this [iV 1] [] rfl rfl k11 (mX1_refused s0 he14) YOK_X1_refused rfl q288 q129 q287 qs0 q285 (Nat.le_of_ble_eq_true rfl) (Nat.le_of_ble_eq_true rfl) (Nat.le_of_ble_eq_true rfl) dX1_hire_18 (st2 := [iV v13]) rfl) ?_
      clear he14
      refine e2 (fun q0 q1 => ?_)
      subst q0
      subst q1
      exact go_iret (pc := 21) (Y := YX1_hire) rfl dX1_hire_21
    · refine im (go_aload_n (pc := 22) (Y := YX1_hire) 0 dX1_hire_22 rfl rfl) ?_
      refine flp (go_gR (pc := 23) (Y := YX1_hire) fF1001 (by decide) q201 (Or.inl rfl) dX1_hire_23) (fun v15 => ?_)
      refine im (go_iload_n (pc := 26) (Y := YX1_hire) 1 dX1_hire_26 rfl rfl) ?_
      refine ivg (fun w16 r17 k18 => ?_)
      refine bpg (fun v19 he20 => ?_)
      refine im (go_callV (pc := 27) (Y := YX1_hire) (Yc := YX5_person) (y := yX5_person) (n := 1) (c0 := 5) (q := (RX5, TX5, 10)) w16 [iV p0] [] (by rw [r17]; rfl) rfl k18 (mX5_person s0 he20) YOK_X5_person rfl q986 q136 q984 q985 q1123 (Nat.le_of_ble_eq_true rfl) (Nat.le_of_ble_eq_true rfl) (Nat.le_of_ble_eq_true rfl) dX1_hire_27 (st2 := [rV v19]) rfl) ?_
      clear he20
      refine flp (go_gI (pc := 30) (Y := YX1_hire) fF69 (by decide) q909 (Or.inl rfl) dX1_hire_30) (fun v21 => ?_)
      refine im (go_istore_n (pc := 33) (Y := YX1_hire) (ls2 := [(3, iV v21), (0, rV (some this)), (1, iV p0), (2, iV p1)]) dX1_hire_33 rfl (Nat.le_of_ble_eq_true rfl) rfl) ?_
      refine im (go_iload_n (pc := 34) (Y := YX1_hire) 0 dX1_hire_34 rfl rfl) ?_
      refine im (go_bipush (pc := 35) (Y := YX1_hire) (v := -2) dX1_hire_35 rfl) ?_
      refine flp2 (go_icmp_eq (pc := 37) (Y := YX1_hire) 53 dX1_hire_37 (by decide)) ?_ ?_
      · refine im (go_aload_n (pc := 53) (Y := YX1_hire) 1 dX1_hire_53 rfl rfl) ?_
        refine im (go_iconst (pc := 54) (Y := YX1_hire) (v := 5) dX1_hire_54 rfl) ?_
        refine kdg (fun k22 => ?_)
        refine bdg (fun s23 v24 he25 => ?_)
        refine im (go_callV (pc := 55) (Y := YX1_hire) (Yc := YX1_refused) (y := yX1_refused) (n := 1) (c0 := 0) (q := (RX1, TX1, 25)) this [iV 5] [] rfl rfl k22 (mX1_refused s0 he25) YOK_X1_refused rfl q288 q129 q287 qs0 q285 (Nat.le_of_ble_eq_true rfl) (Nat.le_of_ble_eq_true rfl) (Nat.le_of_ble_eq_true rfl) dX1_hire_55 (st2 := [iV v24]) rfl) ?_
        clear he25
        refine e2 (fun q0 q1 => ?_)
        subst q0
        subst q1
        exact go_iret (pc := 58) (Y := YX1_hire) rfl dX1_hire_58
      · refine im (go_aload_n (pc := 40) (Y := YX1_hire) 1 dX1_hire_40 rfl rfl) ?_
        refine flp (go_gR (pc := 41) (Y := YX1_hire) fF1002 (by decide) q202 (Or.inl rfl) dX1_hire_41) (fun v26 => ?_)
        refine flp (go_gR (pc := 44) (Y := YX1_hire) fF1036 (by decide) q1061 (Or.inl rfl) dX1_hire_44) (fun v27 => ?_)
        refine im (go_iload_n (pc := 47) (Y := YX1_hire) 2 dX1_hire_47 rfl rfl) ?_
        refine flp (go_lI2 (pc := 48) (Y := YX1_hire) dX1_hire_48) (fun v28 => ?_)
        refine im (go_iload_n (pc := 49) (Y := YX1_hire) 3 dX1_hire_49 rfl rfl) ?_
        refine flp2 (go_icmp_ne (pc := 50) (Y := YX1_hire) 59 dX1_hire_50 (by decide)) ?_ ?_
        · refine im (go_aload_n (pc := 53) (Y := YX1_hire) 1 dX1_hire_53 rfl rfl) ?_
          refine im (go_iconst (pc := 54) (Y := YX1_hire) (v := 5) dX1_hire_54 rfl) ?_
          refine kdg (fun k29 => ?_)
          refine bdg (fun s30 v31 he32 => ?_)
          refine im (go_callV (pc := 55) (Y := YX1_hire) (Yc := YX1_refused) (y := yX1_refused) (n := 1) (c0 := 0) (q := (RX1, TX1, 25)) this [iV 5] [] rfl rfl k29 (mX1_refused s0 he32) YOK_X1_refused rfl q288 q129 q287 qs0 q285 (Nat.le_of_ble_eq_true rfl) (Nat.le_of_ble_eq_true rfl) (Nat.le_of_ble_eq_true rfl) dX1_hire_55 (st2 := [iV v31]) rfl) ?_
          clear he32
          refine e2 (fun q0 q1 => ?_)
          subst q0
          subst q1
          exact go_iret (pc := 58) (Y := YX1_hire) rfl dX1_hire_58
        · refine im (go_aload_n (pc := 59) (Y := YX1_hire) 1 dX1_hire_59 rfl rfl) ?_
          refine kdg (fun k33 => ?_)
          refine bpg (fun s34 he35 => ?_)
          refine im (go_callV (pc := 60) (Y := YX1_hire) (Yc := YX1_remembers) (y := yX1_remembers) (n := 0) (c0 := 0) (q := (RX1, TX1, 25)) this [] [] rfl rfl k33 (mX1_remembers s0 he35) YOK_X1_remembers rfl q1506 q129 q1505 qs62 q1503 (Nat.le_of_ble_eq_true rfl) (Nat.le_of_ble_eq_true rfl) (Nat.le_of_ble_eq_true rfl) dX1_hire_60 (st2 := []) rfl) ?_
          clear he35
          refine im (go_aload_n (pc := 63) (Y := YX1_hire) 1 dX1_hire_63 rfl rfl) ?_
          refine flp (go_gR (pc := 64) (Y := YX1_hire) fF1002 (by decide) q202 (Or.inl rfl) dX1_hire_64) (fun v36 => ?_)
          refine flp (go_gR (pc := 67) (Y := YX1_hire) fF1036 (by decide) q1061 (Or.inl rfl) dX1_hire_67) (fun v37 => ?_)
          refine im (go_iload_n (pc := 70) (Y := YX1_hire) 2 dX1_hire_70 rfl rfl) ?_
          refine im (go_iload_n (pc := 71) (Y := YX1_hire) 3 dX1_hire_71 rfl rfl) ?_
          refine im (go_i2b (pc := 72) (Y := YX1_hire) dX1_hire_72) ?_
          refine flp (go_tB (pc := 73) (Y := YX1_hire) dX1_hire_73) (fun s38 => ?_)
          refine im (go_aload_n (pc := 74) (Y := YX1_hire) 1 dX1_hire_74 rfl rfl) ?_
          refine flp (go_gR (pc := 75) (Y := YX1_hire) fF1002 (by decide) q202 (Or.inl rfl) dX1_hire_75) (fun v39 => ?_)
          refine im (go_dup (pc := 78) (Y := YX1_hire) dX1_hire_78 rfl) ?_
          refine flp (go_gI (pc := 79) (Y := YX1_hire) fF78 (by decide) q1065 (Or.inl rfl) dX1_hire_79) (fun v40 => ?_)
          refine im (go_iload_n (pc := 82) (Y := YX1_hire) 0 dX1_hire_82 rfl rfl) ?_
          refine im (go_iadd (pc := 83) (Y := YX1_hire) dX1_hire_83) ?_
          refine flp (go_pI (pc := 84) (Y := YX1_hire) fF78 (by decide) q1065 (Or.inl rfl) (Or.inl rfl) rfl rfl rfl dX1_hire_84) (fun s41 => ?_)
          refine im (go_aload_n (pc := 87) (Y := YX1_hire) 1 dX1_hire_87 rfl rfl) ?_
          refine im (go_iload_n (pc := 88) (Y := YX1_hire) 0 dX1_hire_88 rfl rfl) ?_
          refine kdg (fun k42 => ?_)
          refine bdg (fun s43 v44 he45 => ?_)
          refine im (go_callV (pc := 89) (Y := YX1_hire) (Yc := YX1_well) (y := yX1_well) (n := 1) (c0 := 0) (q := (RX1, TX1, 25)) this [iV v21] [] rfl rfl k42 (mX1_well s41 he45) YOK_X1_well rfl q1102 q129 q1101 qs29 q1099 (Nat.le_of_ble_eq_true rfl) (Nat.le_of_ble_eq_true rfl) (Nat.le_of_ble_eq_true rfl) dX1_hire_89 (st2 := [iV v44]) rfl) ?_
          clear he45
          refine e2 (fun q0 q1 => ?_)
          subst q0
          subst q1
          exact go_iret (pc := 92) (Y := YX1_hire) rfl dX1_hire_92
abbrev YX1_dismiss : mY := (RX1, cX1_dismiss, 2, (Option.some .boolean), 8, 177, false)
theorem YOK_X1_dismiss : YOK yX1_dismiss 1 := ⟨⟨by decide +kernel, by decide +kernel⟩, by decide +kernel⟩
theorem mX1_dismiss {G : gG} (s0 : St) {this : Nat} {p0 : Int32} {sE : St} {vE : Int32} (h : sX1_dismiss s0 this p0 = some (sE, vE)) : Mt G YX1_dismiss yX1_dismiss [rV (some this), iV p0] s0 (some (iV vE)) sE := by
  refine go_start (ls0 := [(0, rV (some this)), (1, iV p0)]) (by decide +kernel) rfl (fun h => by cases h) (Nat.le_of_ble_eq_true rfl) rfl ?_
  revert h
  unfold sX1_dismiss
  refine im (go_aload_n (pc := 0) (Y := YX1_dismiss) 0 dX1_dismiss_0 rfl rfl) ?_
  refine im (go_iload_n (pc := 1) (Y := YX1_dismiss) 1 dX1_dismiss_1 rfl rfl) ?_
  refine kdg (fun k1 => ?_)
  refine bpg (fun v2 he3 => ?_)
  refine im (go_callV (pc := 2) (Y := YX1_dismiss) (Yc := YX1_isPerson) (y := yX1_isPerson) (n := 1) (c0 := 0) (q := (RX1, TX1, 25)) this [iV p0] [] rfl rfl k1 (mX1_isPerson s0 he3) YOK_X1_isPerson rfl q1118 q129 q1117 qs30 q1115 (Nat.le_of_ble_eq_true rfl) (Nat.le_of_ble_eq_true rfl) (Nat.le_of_ble_eq_true rfl) dX1_dismiss_2 (st2 := [iV v2]) rfl) ?_
  clear he3
  refine flp2 (go_if_ne (pc := 5) (Y := YX1_dismiss) 14 dX1_dismiss_5 (by decide)) ?_ ?_
  · refine im (go_aload_n (pc := 8) (Y := YX1_dismiss) 0 dX1_dismiss_8 rfl rfl) ?_
    refine im (go_iconst (pc := 9) (Y := YX1_dismiss) (v := 1) dX1_dismiss_9 rfl) ?_
    refine kdg (fun k4 => ?_)
    refine bdg (fun s5 v6 he7 => ?_)
    refine im (go_callV (pc := 10) (Y := YX1_dismiss) (Yc := YX1_denied) (y := yX1_denied) (n := 1) (c0 := 0) (q := (RX1, TX1, 25)) this [iV 1] [] rfl rfl k4 (mX1_denied s0 he7) YOK_X1_denied rfl q1502 q129 q1501 qs61 q1499 (Nat.le_of_ble_eq_true rfl) (Nat.le_of_ble_eq_true rfl) (Nat.le_of_ble_eq_true rfl) dX1_dismiss_10 (st2 := [iV v6]) rfl) ?_
    clear he7
    refine okg (fun z8 => ?_)
    refine e2 (fun q0 q1 => ?_)
    subst q0
    subst q1
    exact go_zret (pc := 13) (Y := YX1_dismiss) rfl (okZ_nar z8).1 dX1_dismiss_13
  · refine im (go_aload_n (pc := 14) (Y := YX1_dismiss) 0 dX1_dismiss_14 rfl rfl) ?_
    refine flp (go_gR (pc := 15) (Y := YX1_dismiss) fF1002 (by decide) q202 (Or.inl rfl) dX1_dismiss_15) (fun v9 => ?_)
    refine flp (go_gR (pc := 18) (Y := YX1_dismiss) fF1036 (by decide) q1061 (Or.inl rfl) dX1_dismiss_18) (fun v10 => ?_)
    refine im (go_iload_n (pc := 21) (Y := YX1_dismiss) 1 dX1_dismiss_21 rfl rfl) ?_
    refine flp (go_lI2 (pc := 22) (Y := YX1_dismiss) dX1_dismiss_22) (fun v11 => ?_)
    refine im (go_bipush (pc := 23) (Y := YX1_dismiss) (v := -2) dX1_dismiss_23 rfl) ?_
    refine flp2 (go_icmp_ne (pc := 25) (Y := YX1_dismiss) 34 dX1_dismiss_25 (by decide)) ?_ ?_
    · refine im (go_aload_n (pc := 28) (Y := YX1_dismiss) 0 dX1_dismiss_28 rfl rfl) ?_
      refine im (go_iconst (pc := 29) (Y := YX1_dismiss) (v := 5) dX1_dismiss_29 rfl) ?_
      refine kdg (fun k12 => ?_)
      refine bdg (fun s13 v14 he15 => ?_)
      refine im (go_callV (pc := 30) (Y := YX1_dismiss) (Yc := YX1_denied) (y := yX1_denied) (n := 1) (c0 := 0) (q := (RX1, TX1, 25)) this [iV 5] [] rfl rfl k12 (mX1_denied s0 he15) YOK_X1_denied rfl q1502 q129 q1501 qs61 q1499 (Nat.le_of_ble_eq_true rfl) (Nat.le_of_ble_eq_true rfl) (Nat.le_of_ble_eq_true rfl) dX1_dismiss_30 (st2 := [iV v14]) rfl) ?_
      clear he15
      refine okg (fun z16 => ?_)
      refine e2 (fun q0 q1 => ?_)
      subst q0
      subst q1
      exact go_zret (pc := 33) (Y := YX1_dismiss) rfl (okZ_nar z16).1 dX1_dismiss_33
    · refine im (go_aload_n (pc := 34) (Y := YX1_dismiss) 0 dX1_dismiss_34 rfl rfl) ?_
      refine kdg (fun k17 => ?_)
      refine bpg (fun s18 he19 => ?_)
      refine im (go_callV (pc := 35) (Y := YX1_dismiss) (Yc := YX1_remembers) (y := yX1_remembers) (n := 0) (c0 := 0) (q := (RX1, TX1, 25)) this [] [] rfl rfl k17 (mX1_remembers s0 he19) YOK_X1_remembers rfl q1506 q129 q1505 qs62 q1503 (Nat.le_of_ble_eq_true rfl) (Nat.le_of_ble_eq_true rfl) (Nat.le_of_ble_eq_true rfl) dX1_dismiss_35 (st2 := []) rfl) ?_
      clear he19
      refine im (go_aload_n (pc := 38) (Y := YX1_dismiss) 0 dX1_dismiss_38 rfl rfl) ?_
      refine flp (go_gR (pc := 39) (Y := YX1_dismiss) fF1002 (by decide) q202 (Or.inl rfl) dX1_dismiss_39) (fun v20 => ?_)
      refine flp (go_gR (pc := 42) (Y := YX1_dismiss) fF1036 (by decide) q1061 (Or.inl rfl) dX1_dismiss_42) (fun v21 => ?_)
      refine im (go_iload_n (pc := 45) (Y := YX1_dismiss) 1 dX1_dismiss_45 rfl rfl) ?_
      refine im (go_bipush (pc := 46) (Y := YX1_dismiss) (v := -2) dX1_dismiss_46 rfl) ?_
      refine flp (go_tB (pc := 48) (Y := YX1_dismiss) dX1_dismiss_48) (fun s22 => ?_)
      refine im (go_aload_n (pc := 49) (Y := YX1_dismiss) 0 dX1_dismiss_49 rfl rfl) ?_
      refine kdg (fun k23 => ?_)
      refine bdg (fun s24 v25 he26 => ?_)
      refine im (go_callV (pc := 50) (Y := YX1_dismiss) (Yc := YX1_granted) (y := yX1_granted) (n := 0) (c0 := 0) (q := (RX1, TX1, 25)) this [] [] rfl rfl k23 (mX1_granted s22 he26) YOK_X1_granted rfl q1520 q129 q1519 qs64 q1517 (Nat.le_of_ble_eq_true rfl) (Nat.le_of_ble_eq_true rfl) (Nat.le_of_ble_eq_true rfl) dX1_dismiss_50 (st2 := [iV v25]) rfl) ?_
      clear he26
      refine okg (fun z27 => ?_)
      refine e2 (fun q0 q1 => ?_)
      subst q0
      subst q1
      exact go_zret (pc := 53) (Y := YX1_dismiss) rfl (okZ_nar z27).1 dX1_dismiss_53
abbrev YX1_spent : mY := (RX1, cX1_spent, 1, (Option.some .int), 1, 21, false)
theorem YOK_X1_spent : YOK yX1_spent 0 := ⟨⟨by decide +kernel, by decide +kernel⟩, by decide +kernel⟩
theorem mX1_spent {G : gG} (s0 : St) {this : Nat} {sE : St} {vE : Int32} (h : sX1_spent s0 this = some (sE, vE)) : Mt G YX1_spent yX1_spent [rV (some this)] s0 (some (iV vE)) sE := by
  refine go_start (ls0 := [(0, rV (some this))]) (by decide +kernel) rfl (fun h => by cases h) (Nat.le_of_ble_eq_true rfl) rfl ?_
  revert h
  unfold sX1_spent
  refine im (go_aload_n (pc := 0) (Y := YX1_spent) 0 dX1_spent_0 rfl rfl) ?_
  refine flp (go_gR (pc := 1) (Y := YX1_spent) fF1001 (by decide) q201 (Or.inl rfl) dX1_spent_1) (fun v1 => ?_)
  refine flp2 (go_ifnonnull (pc := 4) (Y := YX1_spent) 15 dX1_spent_4 (by decide)) ?_ ?_
  · refine im (go_aload_n (pc := 7) (Y := YX1_spent) 0 dX1_spent_7 rfl rfl) ?_
    refine im (go_iconst (pc := 8) (Y := YX1_spent) (v := 1) dX1_spent_8 rfl) ?_
    refine kdg (fun k2 => ?_)
    refine bdg (fun s3 v4 he5 => ?_)
    refine im (go_callV (pc := 9) (Y := YX1_spent) (Yc := YX1_refused) (y := yX1_refused) (n := 1) (c0 := 0) (q := (RX1, TX1, 25)) this [iV 1] [] rfl rfl k2 (mX1_refused s0 he5) YOK_X1_refused rfl q288 q129 q287 qs0 q285 (Nat.le_of_ble_eq_true rfl) (Nat.le_of_ble_eq_true rfl) (Nat.le_of_ble_eq_true rfl) dX1_spent_9 (st2 := [iV v4]) rfl) ?_
    clear he5
    refine im (go_goto (pc := 12) (Y := YX1_spent) 26 dX1_spent_12 (by decide)) ?_
    refine e2 (fun q0 q1 => ?_)
    subst q0
    subst q1
    exact go_iret (pc := 26) (Y := YX1_spent) rfl dX1_spent_26
  · refine im (go_aload_n (pc := 15) (Y := YX1_spent) 0 dX1_spent_15 rfl rfl) ?_
    refine im (go_aload_n (pc := 16) (Y := YX1_spent) 0 dX1_spent_16 rfl rfl) ?_
    refine flp (go_gR (pc := 17) (Y := YX1_spent) fF1002 (by decide) q202 (Or.inl rfl) dX1_spent_17) (fun v6 => ?_)
    refine flp (go_gI (pc := 20) (Y := YX1_spent) fF78 (by decide) q1065 (Or.inl rfl) dX1_spent_20) (fun v7 => ?_)
    refine kdg (fun k8 => ?_)
    refine bdg (fun s9 v10 he11 => ?_)
    refine im (go_callV (pc := 23) (Y := YX1_spent) (Yc := YX1_well) (y := yX1_well) (n := 1) (c0 := 0) (q := (RX1, TX1, 25)) this [iV v7] [] rfl rfl k8 (mX1_well s0 he11) YOK_X1_well rfl q1102 q129 q1101 qs29 q1099 (Nat.le_of_ble_eq_true rfl) (Nat.le_of_ble_eq_true rfl) (Nat.le_of_ble_eq_true rfl) dX1_spent_23 (st2 := [iV v10]) rfl) ?_
    clear he11
    refine e2 (fun q0 q1 => ?_)
    subst q0
    subst q1
    exact go_iret (pc := 26) (Y := YX1_spent) rfl dX1_spent_26
abbrev YX1_undo : mY := (RX1, cX1_undo, 1, (Option.some .boolean), 3, 72, false)
theorem YOK_X1_undo : YOK yX1_undo 0 := ⟨⟨by decide +kernel, by decide +kernel⟩, by decide +kernel⟩
theorem mX1_undo {G : gG} (s0 : St) {this : Nat} {sE : St} {vE : Int32} (h : sX1_undo s0 this = some (sE, vE)) : Mt G YX1_undo yX1_undo [rV (some this)] s0 (some (iV vE)) sE := by
  refine go_start (ls0 := [(0, rV (some this))]) (by decide +kernel) rfl (fun h => by cases h) (Nat.le_of_ble_eq_true rfl) rfl ?_
  revert h
  unfold sX1_undo
  refine im (go_aload_n (pc := 0) (Y := YX1_undo) 0 dX1_undo_0 rfl rfl) ?_
  refine flp (go_gR (pc := 1) (Y := YX1_undo) fF1004 (by decide) q204 (Or.inl rfl) dX1_undo_1) (fun v1 => ?_)
  refine ivg (fun w2 r3 k4 => ?_)
  refine bpg (fun v5 he6 => ?_)
  refine im (go_callV (pc := 4) (Y := YX1_undo) (Yc := YJ2_isEmpty) (y := yJ2_isEmpty) (n := 0) (c0 := 1) (q := (RJ2, TJ2, 3)) w2 [] [] (by rw [r3]; rfl) rfl k4 (mJ2_isEmpty s0 he6) YOK_J2_isEmpty rfl q1052 q132 q1050 q1051 q1541 (Nat.le_of_ble_eq_true rfl) (Nat.le_of_ble_eq_true rfl) (Nat.le_of_ble_eq_true rfl) dX1_undo_4 (st2 := [iV v5]) rfl) ?_
  clear he6
  refine flp2 (go_if_eq (pc := 7) (Y := YX1_undo) 17 dX1_undo_7 (by decide)) ?_ ?_
  · refine im (go_aload_n (pc := 17) (Y := YX1_undo) 0 dX1_undo_17 rfl rfl) ?_
    refine im (go_aload_n (pc := 18) (Y := YX1_undo) 0 dX1_undo_18 rfl rfl) ?_
    refine flp (go_gR (pc := 19) (Y := YX1_undo) fF1004 (by decide) q204 (Or.inl rfl) dX1_undo_19) (fun v7 => ?_)
    refine im (go_aload_n (pc := 22) (Y := YX1_undo) 0 dX1_undo_22 rfl rfl) ?_
    refine flp (go_gR (pc := 23) (Y := YX1_undo) fF1004 (by decide) q204 (Or.inl rfl) dX1_undo_23) (fun v8 => ?_)
    refine ivg (fun w9 r10 k11 => ?_)
    refine bpg (fun v12 he13 => ?_)
    refine im (go_callV (pc := 26) (Y := YX1_undo) (Yc := YJ2_size) (y := yJ2_size) (n := 0) (c0 := 1) (q := (RJ2, TJ2, 3)) w9 [] [rV v7, rV (some this)] (by rw [r10]; rfl) rfl k11 (mJ2_size s0 he13) YOK_J2_size rfl q733 q132 q731 q732 q1098 (Nat.le_of_ble_eq_true rfl) (Nat.le_of_ble_eq_true rfl) (Nat.le_of_ble_eq_true rfl) dX1_undo_26 (st2 := [iV v12, rV v7, rV (some this)]) rfl) ?_
    clear he13
    refine im (go_iconst (pc := 29) (Y := YX1_undo) (v := 1) dX1_undo_29 rfl) ?_
    refine im (go_isub (pc := 30) (Y := YX1_undo) dX1_undo_30) ?_
    refine ivg (fun w14 r15 k16 => ?_)
    refine bdg (fun s17 v18 he19 => ?_)
    refine im (go_callV (pc := 31) (Y := YX1_undo) (Yc := YJ2_remove) (y := yJ2_remove) (n := 1) (c0 := 1) (q := (RJ2, TJ2, 3)) w14 [iV (v12 - 1)] [rV (some this)] (by rw [r15]; rfl) rfl k16 (mJ2_remove s0 he19) YOK_J2_remove rfl q1510 q132 q1508 q1509 q1507 (Nat.le_of_ble_eq_true rfl) (Nat.le_of_ble_eq_true rfl) (Nat.le_of_ble_eq_true rfl) dX1_undo_31 (st2 := [rV v18, rV (some this)]) rfl) ?_
    clear he19
    refine flp (go_cast (pc := 34) (Y := YX1_undo) (cs := [21]) (nm := "ThirdWitness$Scene") (by decide +kernel) q1053 dX1_undo_34) (fun h20 => ?_)
    revert h20
    refine flp (go_pR (pc := 37) (Y := YX1_undo) fF1002 (by decide) q202 (Or.inl rfl) (Or.inl rfl) rfl (Or.inl ⟨_, rfl⟩) dX1_undo_37) (fun s21 => ?_)
    refine im (go_aload_n (pc := 40) (Y := YX1_undo) 0 dX1_undo_40 rfl rfl) ?_
    refine kdg (fun k22 => ?_)
    refine bdg (fun s23 v24 he25 => ?_)
    refine im (go_callV (pc := 41) (Y := YX1_undo) (Yc := YX1_granted) (y := yX1_granted) (n := 0) (c0 := 0) (q := (RX1, TX1, 25)) this [] [] rfl rfl k22 (mX1_granted s21 he25) YOK_X1_granted rfl q1520 q129 q1519 qs64 q1517 (Nat.le_of_ble_eq_true rfl) (Nat.le_of_ble_eq_true rfl) (Nat.le_of_ble_eq_true rfl) dX1_undo_41 (st2 := [iV v24]) rfl) ?_
    clear he25
    refine okg (fun z26 => ?_)
    refine e2 (fun q0 q1 => ?_)
    subst q0
    subst q1
    exact go_zret (pc := 44) (Y := YX1_undo) rfl (okZ_nar z26).1 dX1_undo_44
  · refine im (go_aload_n (pc := 10) (Y := YX1_undo) 0 dX1_undo_10 rfl rfl) ?_
    refine im (go_bipush (pc := 11) (Y := YX1_undo) (v := 6) dX1_undo_11 rfl) ?_
    refine kdg (fun k27 => ?_)
    refine bdg (fun s28 v29 he30 => ?_)
    refine im (go_callV (pc := 13) (Y := YX1_undo) (Yc := YX1_denied) (y := yX1_denied) (n := 1) (c0 := 0) (q := (RX1, TX1, 25)) this [iV 6] [] rfl rfl k27 (mX1_denied s0 he30) YOK_X1_denied rfl q1502 q129 q1501 qs61 q1499 (Nat.le_of_ble_eq_true rfl) (Nat.le_of_ble_eq_true rfl) (Nat.le_of_ble_eq_true rfl) dX1_undo_13 (st2 := [iV v29]) rfl) ?_
    clear he30
    refine okg (fun z31 => ?_)
    refine e2 (fun q0 q1 => ?_)
    subst q0
    subst q1
    exact go_zret (pc := 16) (Y := YX1_undo) rfl (okZ_nar z31).1 dX1_undo_16
abbrev YX1_image : mY := (RX1, cX1_image, 1, (Option.some .int), 7, 157, false)
theorem YOK_X1_image : YOK yX1_image 0 := ⟨⟨by decide +kernel, by decide +kernel⟩, by decide +kernel⟩
theorem mX1_image {G : gG} (s0 : St) {this : Nat} {sE : St} {vE : Int32} (h : sX1_image s0 this = some (sE, vE)) : Mt G YX1_image yX1_image [rV (some this)] s0 (some (iV vE)) sE := by
  refine go_start (ls0 := [(0, rV (some this))]) (by decide +kernel) rfl (fun h => by cases h) (Nat.le_of_ble_eq_true rfl) rfl ?_
  revert h
  unfold sX1_image
  refine im (go_aload_n (pc := 0) (Y := YX1_image) 0 dX1_image_0 rfl rfl) ?_
  refine flp (go_gR (pc := 1) (Y := YX1_image) fF1001 (by decide) q201 (Or.inl rfl) dX1_image_1) (fun v1 => ?_)
  refine flp2 (go_ifnonnull (pc := 4) (Y := YX1_image) 13 dX1_image_4 (by decide)) ?_ ?_
  · refine im (go_aload_n (pc := 7) (Y := YX1_image) 0 dX1_image_7 rfl rfl) ?_
    refine im (go_iconst (pc := 8) (Y := YX1_image) (v := 1) dX1_image_8 rfl) ?_
    refine kdg (fun k2 => ?_)
    refine bdg (fun s3 v4 he5 => ?_)
    refine im (go_callV (pc := 9) (Y := YX1_image) (Yc := YX1_refused) (y := yX1_refused) (n := 1) (c0 := 0) (q := (RX1, TX1, 25)) this [iV 1] [] rfl rfl k2 (mX1_refused s0 he5) YOK_X1_refused rfl q288 q129 q287 qs0 q285 (Nat.le_of_ble_eq_true rfl) (Nat.le_of_ble_eq_true rfl) (Nat.le_of_ble_eq_true rfl) dX1_image_9 (st2 := [iV v4]) rfl) ?_
    clear he5
    refine e2 (fun q0 q1 => ?_)
    subst q0
    subst q1
    exact go_iret (pc := 12) (Y := YX1_image) rfl dX1_image_12
  · refine im (go_aload_n (pc := 13) (Y := YX1_image) 0 dX1_image_13 rfl rfl) ?_
    refine flp (go_gR (pc := 14) (Y := YX1_image) fF1005 (by decide) q205 (Or.inl rfl) dX1_image_14) (fun v6 => ?_)
    refine ivg (fun w7 r8 k9 => ?_)
    refine bpg (fun v10 he11 => ?_)
    refine im (go_callV (pc := 17) (Y := YX1_image) (Yc := YJ2_size) (y := yJ2_size) (n := 0) (c0 := 1) (q := (RJ2, TJ2, 3)) w7 [] [] (by rw [r8]; rfl) rfl k9 (mJ2_size s0 he11) YOK_J2_size rfl q733 q132 q731 q732 q1098 (Nat.le_of_ble_eq_true rfl) (Nat.le_of_ble_eq_true rfl) (Nat.le_of_ble_eq_true rfl) dX1_image_17 (st2 := [iV v10]) rfl) ?_
    clear he11
    refine im (go_iconst (pc := 20) (Y := YX1_image) (v := 3) dX1_image_20 rfl) ?_
    refine flp2 (go_icmp_ne (pc := 21) (Y := YX1_image) 30 dX1_image_21 (by decide)) ?_ ?_
    · refine im (go_aload_n (pc := 24) (Y := YX1_image) 0 dX1_image_24 rfl rfl) ?_
      refine im (go_iconst (pc := 25) (Y := YX1_image) (v := 3) dX1_image_25 rfl) ?_
      refine kdg (fun k12 => ?_)
      refine bdg (fun s13 v14 he15 => ?_)
      refine im (go_callV (pc := 26) (Y := YX1_image) (Yc := YX1_refused) (y := yX1_refused) (n := 1) (c0 := 0) (q := (RX1, TX1, 25)) this [iV 3] [] rfl rfl k12 (mX1_refused s0 he15) YOK_X1_refused rfl q288 q129 q287 qs0 q285 (Nat.le_of_ble_eq_true rfl) (Nat.le_of_ble_eq_true rfl) (Nat.le_of_ble_eq_true rfl) dX1_image_26 (st2 := [iV v14]) rfl) ?_
      clear he15
      refine e2 (fun q0 q1 => ?_)
      subst q0
      subst q1
      exact go_iret (pc := 29) (Y := YX1_image) rfl dX1_image_29
    · refine im (go_aload_n (pc := 30) (Y := YX1_image) 0 dX1_image_30 rfl rfl) ?_
      refine flp (go_gR (pc := 31) (Y := YX1_image) fF1005 (by decide) q205 (Or.inl rfl) dX1_image_31) (fun v16 => ?_)
      refine im (go_aload_n (pc := 34) (Y := YX1_image) 0 dX1_image_34 rfl rfl) ?_
      refine flp (go_gR (pc := 35) (Y := YX1_image) fF1002 (by decide) q202 (Or.inl rfl) dX1_image_35) (fun v17 => ?_)
      refine ivg (fun w18 r19 k20 => ?_)
      refine bdg (fun s21 v22 he23 => ?_)
      refine im (go_callV (pc := 38) (Y := YX1_image) (Yc := YX14_copy) (y := yX14_copy) (n := 0) (c0 := 16) (q := (RX14, TX14, 4)) w18 [] [rV v16] (by rw [r19]; rfl) rfl k20 (mX14_copy s0 he23) YOK_X14_copy rfl q1082 q156 q1080 q1081 q1079 (Nat.le_of_ble_eq_true rfl) (Nat.le_of_ble_eq_true rfl) (Nat.le_of_ble_eq_true rfl) dX1_image_38 (st2 := [rV v22, rV v16]) rfl) ?_
      clear he23
      refine ivg (fun w24 r25 k26 => ?_)
      refine bdg (fun s27 v28 he29 => ?_)
      refine im (go_callV (pc := 41) (Y := YX1_image) (Yc := YJ2_add) (y := yJ2_add) (n := 1) (c0 := 1) (q := (RJ2, TJ2, 3)) w24 [rV v22] [] (by rw [r25]; rfl) rfl k26 (mJ2_add s21 he29) YOK_J2_add rfl q792 q132 q790 q791 q1516 (Nat.le_of_ble_eq_true rfl) (Nat.le_of_ble_eq_true rfl) (Nat.le_of_ble_eq_true rfl) dX1_image_41 (st2 := [iV v28]) rfl) ?_
      clear he29
      refine im (go_pop (pc := 44) (Y := YX1_image) dX1_image_44 rfl) ?_
      refine im (go_aload_n (pc := 45) (Y := YX1_image) 0 dX1_image_45 rfl rfl) ?_
      refine im (go_aload_n (pc := 46) (Y := YX1_image) 0 dX1_image_46 rfl rfl) ?_
      refine flp (go_gR (pc := 47) (Y := YX1_image) fF1005 (by decide) q205 (Or.inl rfl) dX1_image_47) (fun v30 => ?_)
      refine ivg (fun w31 r32 k33 => ?_)
      refine bpg (fun v34 he35 => ?_)
      refine im (go_callV (pc := 50) (Y := YX1_image) (Yc := YJ2_size) (y := yJ2_size) (n := 0) (c0 := 1) (q := (RJ2, TJ2, 3)) w31 [] [rV (some this)] (by rw [r32]; rfl) rfl k33 (mJ2_size s27 he35) YOK_J2_size rfl q733 q132 q731 q732 q1098 (Nat.le_of_ble_eq_true rfl) (Nat.le_of_ble_eq_true rfl) (Nat.le_of_ble_eq_true rfl) dX1_image_50 (st2 := [iV v34, rV (some this)]) rfl) ?_
      clear he35
      refine im (go_iconst (pc := 53) (Y := YX1_image) (v := 1) dX1_image_53 rfl) ?_
      refine im (go_isub (pc := 54) (Y := YX1_image) dX1_image_54) ?_
      refine kdg (fun k36 => ?_)
      refine bdg (fun s37 v38 he39 => ?_)
      refine im (go_callV (pc := 55) (Y := YX1_image) (Yc := YX1_well) (y := yX1_well) (n := 1) (c0 := 0) (q := (RX1, TX1, 25)) this [iV (v34 - 1)] [] rfl rfl k36 (mX1_well s27 he39) YOK_X1_well rfl q1102 q129 q1101 qs29 q1099 (Nat.le_of_ble_eq_true rfl) (Nat.le_of_ble_eq_true rfl) (Nat.le_of_ble_eq_true rfl) dX1_image_55 (st2 := [iV v38]) rfl) ?_
      clear he39
      refine e2 (fun q0 q1 => ?_)
      subst q0
      subst q1
      exact go_iret (pc := 58) (Y := YX1_image) rfl dX1_image_58
abbrev YX1_back : mY := (RX1, cX1_back, 2, (Option.some .boolean), 3, 68, false)
theorem YOK_X1_back : YOK yX1_back 1 := ⟨⟨by decide +kernel, by decide +kernel⟩, by decide +kernel⟩
theorem mX1_back {G : gG} (s0 : St) {this : Nat} {p0 : Int32} {sE : St} {vE : Int32} (h : sX1_back s0 this p0 = some (sE, vE)) : Mt G YX1_back yX1_back [rV (some this), iV p0] s0 (some (iV vE)) sE := by
  refine go_start (ls0 := [(0, rV (some this)), (1, iV p0)]) (by decide +kernel) rfl (fun h => by cases h) (Nat.le_of_ble_eq_true rfl) rfl ?_
  revert h
  unfold sX1_back
  refine im (go_iload_n (pc := 0) (Y := YX1_back) 1 dX1_back_0 rfl rfl) ?_
  refine im (go_iconst (pc := 1) (Y := YX1_back) (v := 0) dX1_back_1 rfl) ?_
  refine im (go_aload_n (pc := 2) (Y := YX1_back) 0 dX1_back_2 rfl rfl) ?_
  refine flp (go_gR (pc := 3) (Y := YX1_back) fF1005 (by decide) q205 (Or.inl rfl) dX1_back_3) (fun v1 => ?_)
  refine ivg (fun w2 r3 k4 => ?_)
  refine bpg (fun v5 he6 => ?_)
  refine im (go_callV (pc := 6) (Y := YX1_back) (Yc := YJ2_size) (y := yJ2_size) (n := 0) (c0 := 1) (q := (RJ2, TJ2, 3)) w2 [] [iV 0, iV p0] (by rw [r3]; rfl) rfl k4 (mJ2_size s0 he6) YOK_J2_size rfl q733 q132 q731 q732 q1098 (Nat.le_of_ble_eq_true rfl) (Nat.le_of_ble_eq_true rfl) (Nat.le_of_ble_eq_true rfl) dX1_back_6 (st2 := [iV v5, iV 0, iV p0]) rfl) ?_
  clear he6
  refine im (go_iconst (pc := 9) (Y := YX1_back) (v := 1) dX1_back_9 rfl) ?_
  refine im (go_isub (pc := 10) (Y := YX1_back) dX1_back_10) ?_
  refine bpg (fun v7 he8 => ?_)
  refine im (go_callS (pc := 11) (Y := YX1_back) (Yc := YX1_in) (y := yX1_in) (n := 3) [iV p0, iV 0, iV (v5 - 1)] [] rfl (mX1_in s0 he8) YOK_X1_in rfl q284 q129 q283 q282 (Nat.le_of_ble_eq_true rfl) (Nat.le_of_ble_eq_true rfl) (Nat.le_of_ble_eq_true rfl) dX1_back_11 (st2 := [iV v7]) rfl) ?_
  clear he8
  refine flp2 (go_if_ne (pc := 14) (Y := YX1_back) 23 dX1_back_14 (by decide)) ?_ ?_
  · refine im (go_aload_n (pc := 17) (Y := YX1_back) 0 dX1_back_17 rfl rfl) ?_
    refine im (go_iconst (pc := 18) (Y := YX1_back) (v := 1) dX1_back_18 rfl) ?_
    refine kdg (fun k9 => ?_)
    refine bdg (fun s10 v11 he12 => ?_)
    refine im (go_callV (pc := 19) (Y := YX1_back) (Yc := YX1_denied) (y := yX1_denied) (n := 1) (c0 := 0) (q := (RX1, TX1, 25)) this [iV 1] [] rfl rfl k9 (mX1_denied s0 he12) YOK_X1_denied rfl q1502 q129 q1501 qs61 q1499 (Nat.le_of_ble_eq_true rfl) (Nat.le_of_ble_eq_true rfl) (Nat.le_of_ble_eq_true rfl) dX1_back_19 (st2 := [iV v11]) rfl) ?_
    clear he12
    refine okg (fun z13 => ?_)
    refine e2 (fun q0 q1 => ?_)
    subst q0
    subst q1
    exact go_zret (pc := 22) (Y := YX1_back) rfl (okZ_nar z13).1 dX1_back_22
  · refine im (go_aload_n (pc := 23) (Y := YX1_back) 0 dX1_back_23 rfl rfl) ?_
    refine im (go_aload_n (pc := 24) (Y := YX1_back) 0 dX1_back_24 rfl rfl) ?_
    refine flp (go_gR (pc := 25) (Y := YX1_back) fF1005 (by decide) q205 (Or.inl rfl) dX1_back_25) (fun v14 => ?_)
    refine im (go_iload_n (pc := 28) (Y := YX1_back) 1 dX1_back_28 rfl rfl) ?_
    refine ivg (fun w15 r16 k17 => ?_)
    refine bpg (fun v18 he19 => ?_)
    refine im (go_callV (pc := 29) (Y := YX1_back) (Yc := YJ2_get) (y := yJ2_get) (n := 1) (c0 := 1) (q := (RJ2, TJ2, 3)) w15 [iV p0] [rV (some this)] (by rw [r16]; rfl) rfl k17 (mJ2_get s0 he19) YOK_J2_get rfl q769 q132 q767 q768 q1172 (Nat.le_of_ble_eq_true rfl) (Nat.le_of_ble_eq_true rfl) (Nat.le_of_ble_eq_true rfl) dX1_back_29 (st2 := [rV v18, rV (some this)]) rfl) ?_
    clear he19
    refine flp (go_cast (pc := 32) (Y := YX1_back) (cs := [21]) (nm := "ThirdWitness$Scene") (by decide +kernel) q1053 dX1_back_32) (fun h20 => ?_)
    revert h20
    refine ivg (fun w21 r22 k23 => ?_)
    refine bdg (fun s24 v25 he26 => ?_)
    refine im (go_callV (pc := 35) (Y := YX1_back) (Yc := YX14_copy) (y := yX14_copy) (n := 0) (c0 := 16) (q := (RX14, TX14, 4)) w21 [] [rV (some this)] (by rw [r22]; rfl) rfl k23 (mX14_copy s0 he26) YOK_X14_copy rfl q1082 q156 q1080 q1081 q1079 (Nat.le_of_ble_eq_true rfl) (Nat.le_of_ble_eq_true rfl) (Nat.le_of_ble_eq_true rfl) dX1_back_35 (st2 := [rV v25, rV (some this)]) rfl) ?_
    clear he26
    refine flp (go_pR (pc := 38) (Y := YX1_back) fF1002 (by decide) q202 (Or.inl rfl) (Or.inl rfl) rfl (Or.inl ⟨_, rfl⟩) dX1_back_38) (fun s27 => ?_)
    refine im (go_aload_n (pc := 41) (Y := YX1_back) 0 dX1_back_41 rfl rfl) ?_
    refine flp (go_gR (pc := 42) (Y := YX1_back) fF1004 (by decide) q204 (Or.inl rfl) dX1_back_42) (fun v28 => ?_)
    refine ivg (fun w29 r30 k31 => ?_)
    refine bpg (fun s32 he33 => ?_)
    refine im (go_callV (pc := 45) (Y := YX1_back) (Yc := YJ2_clear) (y := yJ2_clear) (n := 0) (c0 := 1) (q := (RJ2, TJ2, 3)) w29 [] [] (by rw [r30]; rfl) rfl k31 (mJ2_clear s27 he33) YOK_J2_clear rfl q1093 q132 q1091 q1092 q1090 (Nat.le_of_ble_eq_true rfl) (Nat.le_of_ble_eq_true rfl) (Nat.le_of_ble_eq_true rfl) dX1_back_45 (st2 := []) rfl) ?_
    clear he33
    refine im (go_aload_n (pc := 48) (Y := YX1_back) 0 dX1_back_48 rfl rfl) ?_
    refine kdg (fun k34 => ?_)
    refine bdg (fun s35 v36 he37 => ?_)
    refine im (go_callV (pc := 49) (Y := YX1_back) (Yc := YX1_granted) (y := yX1_granted) (n := 0) (c0 := 0) (q := (RX1, TX1, 25)) this [] [] rfl rfl k34 (mX1_granted s32 he37) YOK_X1_granted rfl q1520 q129 q1519 qs64 q1517 (Nat.le_of_ble_eq_true rfl) (Nat.le_of_ble_eq_true rfl) (Nat.le_of_ble_eq_true rfl) dX1_back_49 (st2 := [iV v36]) rfl) ?_
    clear he37
    refine okg (fun z38 => ?_)
    refine e2 (fun q0 q1 => ?_)
    subst q0
    subst q1
    exact go_zret (pc := 52) (Y := YX1_back) rfl (okZ_nar z38).1 dX1_back_52
abbrev YX1_size : mY := (RX1, cX1_size, 2, (Option.some .int), 2, 40, false)
theorem YOK_X1_size : YOK yX1_size 1 := ⟨⟨by decide +kernel, by decide +kernel⟩, by decide +kernel⟩
theorem mX1_size {G : gG} (s0 : St) {this : Nat} {p0 : Int32} {vE : Int32} (h : sX1_size s0 this p0 = some vE) : Mt G YX1_size yX1_size [rV (some this), iV p0] s0 (some (iV vE)) s0 := by
  refine go_start (ls0 := [(0, rV (some this)), (1, iV p0)]) (by decide +kernel) rfl (fun h => by cases h) (Nat.le_of_ble_eq_true rfl) rfl ?_
  revert h
  unfold sX1_size
  refine im (go_iload_n (pc := 0) (Y := YX1_size) 1 dX1_size_0 rfl rfl) ?_
  refine im (go_bipush (pc := 1) (Y := YX1_size) (v := 11) dX1_size_1 rfl) ?_
  refine flp2 (go_icmp_ne (pc := 3) (Y := YX1_size) 11 dX1_size_3 (by decide)) ?_ ?_
  · refine im (go_aload_n (pc := 6) (Y := YX1_size) 0 dX1_size_6 rfl rfl) ?_
    refine flp (go_gI (pc := 7) (Y := YX1_size) fF0 (by decide) q197 (Or.inl rfl) dX1_size_7) (fun v1 => ?_)
    refine e1 (fun q0 => ?_)
    subst q0
    exact go_iret (pc := 10) (Y := YX1_size) rfl dX1_size_10
  · refine im (go_iload_n (pc := 11) (Y := YX1_size) 1 dX1_size_11 rfl rfl) ?_
    refine im (go_iconst (pc := 12) (Y := YX1_size) (v := 0) dX1_size_12 rfl) ?_
    refine im (go_bipush (pc := 13) (Y := YX1_size) (v := 10) dX1_size_13 rfl) ?_
    refine bpg (fun v2 he3 => ?_)
    refine im (go_callS (pc := 15) (Y := YX1_size) (Yc := YX1_in) (y := yX1_in) (n := 3) [iV p0, iV 0, iV 10] [] rfl (mX1_in s0 he3) YOK_X1_in rfl q284 q129 q283 q282 (Nat.le_of_ble_eq_true rfl) (Nat.le_of_ble_eq_true rfl) (Nat.le_of_ble_eq_true rfl) dX1_size_15 (st2 := [iV v2]) rfl) ?_
    clear he3
    refine flp2 (go_if_ne (pc := 18) (Y := YX1_size) 23 dX1_size_18 (by decide)) ?_ ?_
    · refine im (go_iconst (pc := 21) (Y := YX1_size) (v := -1) dX1_size_21 rfl) ?_
      refine e1 (fun q0 => ?_)
      subst q0
      exact go_iret (pc := 22) (Y := YX1_size) rfl dX1_size_22
    · refine im (go_aload_n (pc := 23) (Y := YX1_size) 0 dX1_size_23 rfl rfl) ?_
      refine flp (go_gR (pc := 24) (Y := YX1_size) fF1001 (by decide) q201 (Or.inl rfl) dX1_size_24) (fun v4 => ?_)
      refine flp2 (go_ifnonnull (pc := 27) (Y := YX1_size) 32 dX1_size_27 (by decide)) ?_ ?_
      · refine im (go_iconst (pc := 30) (Y := YX1_size) (v := 0) dX1_size_30 rfl) ?_
        refine e1 (fun q0 => ?_)
        subst q0
        exact go_iret (pc := 31) (Y := YX1_size) rfl dX1_size_31
      · refine im (go_iload_n (pc := 32) (Y := YX1_size) 1 dX1_size_32 rfl rfl) ?_
        refine ifg (fun c7 => ?_) (fun n8 => ?_)
        · refine im (go_tIn (pc := 33) (Y := YX1_size) 88 dX1_size_33 (by rw [c7]; decide) (by rw [c7]; decide) (off := 55) (by rw [c7]; rfl) (by decide)) ?_
          clear c7
          refine im (go_aload_n (pc := 88) (Y := YX1_size) 0 dX1_size_88 rfl rfl) ?_
          refine flp (go_gR (pc := 89) (Y := YX1_size) fF1001 (by decide) q201 (Or.inl rfl) dX1_size_89) (fun v5 => ?_)
          refine flp (go_gI (pc := 92) (Y := YX1_size) fF49 (by decide) q321 (Or.inl rfl) dX1_size_92) (fun v6 => ?_)
          refine e1 (fun q0 => ?_)
          subst q0
          exact go_iret (pc := 95) (Y := YX1_size) rfl dX1_size_95
        refine ifg (fun c12 => ?_) (fun n13 => ?_)
        · refine im (go_tIn 96 dX1_size_33 (by rw [c12]; decide) (by rw [c12]; decide) (off := 63) (by rw [c12]; rfl) (by decide)) ?_
          clear c12
          refine im (go_aload_n (pc := 96) (Y := YX1_size) 0 dX1_size_96 rfl rfl) ?_
          refine kdg (fun k9 => ?_)
          refine bpg (fun v10 he11 => ?_)
          refine im (go_callV (pc := 97) (Y := YX1_size) (Yc := YX1_places) (y := yX1_places) (n := 0) (c0 := 0) (q := (RX1, TX1, 25)) this [] [] rfl rfl k9 (mX1_places s0 he11) YOK_X1_places rfl q1097 q129 q1096 qs28 q1094 (Nat.le_of_ble_eq_true rfl) (Nat.le_of_ble_eq_true rfl) (Nat.le_of_ble_eq_true rfl) dX1_size_97 (st2 := [iV v10]) rfl) ?_
          clear he11
          refine e1 (fun q0 => ?_)
          subst q0
          exact go_iret (pc := 100) (Y := YX1_size) rfl dX1_size_100
        refine ifg (fun c17 => ?_) (fun n18 => ?_)
        · refine im (go_tIn 101 dX1_size_33 (by rw [c17]; decide) (by rw [c17]; decide) (off := 68) (by rw [c17]; rfl) (by decide)) ?_
          clear c17
          refine im (go_aload_n (pc := 101) (Y := YX1_size) 0 dX1_size_101 rfl rfl) ?_
          refine kdg (fun k14 => ?_)
          refine bpg (fun v15 he16 => ?_)
          refine im (go_callV (pc := 102) (Y := YX1_size) (Yc := YX1_sights) (y := yX1_sights) (n := 0) (c0 := 0) (q := (RX1, TX1, 25)) this [] [] rfl rfl k14 (mX1_sights s0 he16) YOK_X1_sights rfl q1171 q129 q1170 qs35 q1168 (Nat.le_of_ble_eq_true rfl) (Nat.le_of_ble_eq_true rfl) (Nat.le_of_ble_eq_true rfl) dX1_size_102 (st2 := [iV v15]) rfl) ?_
          clear he16
          refine e1 (fun q0 => ?_)
          subst q0
          exact go_iret (pc := 105) (Y := YX1_size) rfl dX1_size_105
        refine ifg (fun c22 => ?_) (fun n23 => ?_)
        · refine im (go_tIn 106 dX1_size_33 (by rw [c22]; decide) (by rw [c22]; decide) (off := 73) (by rw [c22]; rfl) (by decide)) ?_
          clear c22
          refine im (go_aload_n (pc := 106) (Y := YX1_size) 0 dX1_size_106 rfl rfl) ?_
          refine kdg (fun k19 => ?_)
          refine bpg (fun v20 he21 => ?_)
          refine im (go_callV (pc := 107) (Y := YX1_size) (Yc := YX1_people) (y := yX1_people) (n := 0) (c0 := 0) (q := (RX1, TX1, 25)) this [] [] rfl rfl k19 (mX1_people s0 he21) YOK_X1_people rfl q1122 q129 q1121 qs31 q1119 (Nat.le_of_ble_eq_true rfl) (Nat.le_of_ble_eq_true rfl) (Nat.le_of_ble_eq_true rfl) dX1_size_107 (st2 := [iV v20]) rfl) ?_
          clear he21
          refine e1 (fun q0 => ?_)
          subst q0
          exact go_iret (pc := 110) (Y := YX1_size) rfl dX1_size_110
        refine ifg (fun c26 => ?_) (fun n27 => ?_)
        · refine im (go_tIn 111 dX1_size_33 (by rw [c26]; decide) (by rw [c26]; decide) (off := 78) (by rw [c26]; rfl) (by decide)) ?_
          clear c26
          refine im (go_aload_n (pc := 111) (Y := YX1_size) 0 dX1_size_111 rfl rfl) ?_
          refine flp (go_gR (pc := 112) (Y := YX1_size) fF1001 (by decide) q201 (Or.inl rfl) dX1_size_112) (fun v24 => ?_)
          refine flp (go_gI (pc := 115) (Y := YX1_size) fF50 (by decide) q323 (Or.inl rfl) dX1_size_115) (fun v25 => ?_)
          refine e1 (fun q0 => ?_)
          subst q0
          exact go_iret (pc := 118) (Y := YX1_size) rfl dX1_size_118
        refine ifg (fun c31 => ?_) (fun n32 => ?_)
        · refine im (go_tIn 119 dX1_size_33 (by rw [c31]; decide) (by rw [c31]; decide) (off := 86) (by rw [c31]; rfl) (by decide)) ?_
          clear c31
          refine im (go_aload_n (pc := 119) (Y := YX1_size) 0 dX1_size_119 rfl rfl) ?_
          refine kdg (fun k28 => ?_)
          refine bpg (fun v29 he30 => ?_)
          refine im (go_callV (pc := 120) (Y := YX1_size) (Yc := YX1_quarrels) (y := yX1_quarrels) (n := 0) (c0 := 0) (q := (RX1, TX1, 25)) this [] [] rfl rfl k28 (mX1_quarrels s0 he30) YOK_X1_quarrels rfl q1158 q129 q1157 qs33 q1155 (Nat.le_of_ble_eq_true rfl) (Nat.le_of_ble_eq_true rfl) (Nat.le_of_ble_eq_true rfl) dX1_size_120 (st2 := [iV v29]) rfl) ?_
          clear he30
          refine e1 (fun q0 => ?_)
          subst q0
          exact go_iret (pc := 123) (Y := YX1_size) rfl dX1_size_123
        refine ifg (fun c35 => ?_) (fun n36 => ?_)
        · refine im (go_tIn 124 dX1_size_33 (by rw [c35]; decide) (by rw [c35]; decide) (off := 91) (by rw [c35]; rfl) (by decide)) ?_
          clear c35
          refine im (go_aload_n (pc := 124) (Y := YX1_size) 0 dX1_size_124 rfl rfl) ?_
          refine flp (go_gR (pc := 125) (Y := YX1_size) fF1001 (by decide) q201 (Or.inl rfl) dX1_size_125) (fun v33 => ?_)
          refine flp (go_gI (pc := 128) (Y := YX1_size) fF51 (by decide) q325 (Or.inl rfl) dX1_size_128) (fun v34 => ?_)
          refine e1 (fun q0 => ?_)
          subst q0
          exact go_iret (pc := 131) (Y := YX1_size) rfl dX1_size_131
        refine ifg (fun c39 => ?_) (fun n40 => ?_)
        · refine im (go_tIn 132 dX1_size_33 (by rw [c39]; decide) (by rw [c39]; decide) (off := 99) (by rw [c39]; rfl) (by decide)) ?_
          clear c39
          refine im (go_aload_n (pc := 132) (Y := YX1_size) 0 dX1_size_132 rfl rfl) ?_
          refine flp (go_gR (pc := 133) (Y := YX1_size) fF1001 (by decide) q201 (Or.inl rfl) dX1_size_133) (fun v37 => ?_)
          refine flp (go_gI (pc := 136) (Y := YX1_size) fF52 (by decide) q327 (Or.inl rfl) dX1_size_136) (fun v38 => ?_)
          refine e1 (fun q0 => ?_)
          subst q0
          exact go_iret (pc := 139) (Y := YX1_size) rfl dX1_size_139
        refine ifg (fun c43 => ?_) (fun n44 => ?_)
        · refine im (go_tIn 140 dX1_size_33 (by rw [c43]; decide) (by rw [c43]; decide) (off := 107) (by rw [c43]; rfl) (by decide)) ?_
          clear c43
          refine im (go_aload_n (pc := 140) (Y := YX1_size) 0 dX1_size_140 rfl rfl) ?_
          refine flp (go_gR (pc := 141) (Y := YX1_size) fF1001 (by decide) q201 (Or.inl rfl) dX1_size_141) (fun v41 => ?_)
          refine flp (go_gI (pc := 144) (Y := YX1_size) fF53 (by decide) q329 (Or.inl rfl) dX1_size_144) (fun v42 => ?_)
          refine e1 (fun q0 => ?_)
          subst q0
          exact go_iret (pc := 147) (Y := YX1_size) rfl dX1_size_147
        refine ifg (fun c51 => ?_) (fun n52 => ?_)
        · refine im (go_tIn 148 dX1_size_33 (by rw [c51]; decide) (by rw [c51]; decide) (off := 115) (by rw [c51]; rfl) (by decide)) ?_
          clear c51
          refine im (go_aload_n (pc := 148) (Y := YX1_size) 0 dX1_size_148 rfl rfl) ?_
          refine flp (go_gR (pc := 149) (Y := YX1_size) fF1004 (by decide) q204 (Or.inl rfl) dX1_size_149) (fun v45 => ?_)
          refine ivg (fun w46 r47 k48 => ?_)
          refine bpg (fun v49 he50 => ?_)
          refine im (go_callV (pc := 152) (Y := YX1_size) (Yc := YJ2_size) (y := yJ2_size) (n := 0) (c0 := 1) (q := (RJ2, TJ2, 3)) w46 [] [] (by rw [r47]; rfl) rfl k48 (mJ2_size s0 he50) YOK_J2_size rfl q733 q132 q731 q732 q1098 (Nat.le_of_ble_eq_true rfl) (Nat.le_of_ble_eq_true rfl) (Nat.le_of_ble_eq_true rfl) dX1_size_152 (st2 := [iV v49]) rfl) ?_
          clear he50
          refine e1 (fun q0 => ?_)
          subst q0
          exact go_iret (pc := 155) (Y := YX1_size) rfl dX1_size_155
        have ht : ∀ i : Nat, i < 10 → ¬ p0 = Int32.ofInt (0 + i) := by
          intro i hi
          rcases (show i = 0 ∨ i = 1 ∨ i = 2 ∨ i = 3 ∨ i = 4 ∨ i = 5 ∨ i = 6 ∨ i = 7 ∨ i = 8 ∨ i = 9 by omega) with rfl | rfl | rfl | rfl | rfl | rfl | rfl | rfl | rfl | rfl
          · exact n8
          · exact n13
          · exact n18
          · exact n23
          · exact n27
          · exact n32
          · exact n36
          · exact n40
          · exact n44
          · exact n52
        refine im (go_tOut 156 10 dX1_size_33 (by decide) ht (by decide)) ?_
        clear ht
        refine im (go_aload_n (pc := 156) (Y := YX1_size) 0 dX1_size_156 rfl rfl) ?_
        refine flp (go_gR (pc := 157) (Y := YX1_size) fF1005 (by decide) q205 (Or.inl rfl) dX1_size_157) (fun v53 => ?_)
        refine ivg (fun w54 r55 k56 => ?_)
        refine bpg (fun v57 he58 => ?_)
        refine im (go_callV (pc := 160) (Y := YX1_size) (Yc := YJ2_size) (y := yJ2_size) (n := 0) (c0 := 1) (q := (RJ2, TJ2, 3)) w54 [] [] (by rw [r55]; rfl) rfl k56 (mJ2_size s0 he58) YOK_J2_size rfl q733 q132 q731 q732 q1098 (Nat.le_of_ble_eq_true rfl) (Nat.le_of_ble_eq_true rfl) (Nat.le_of_ble_eq_true rfl) dX1_size_160 (st2 := [iV v57]) rfl) ?_
        clear he58
        refine e1 (fun q0 => ?_)
        subst q0
        exact go_iret (pc := 163) (Y := YX1_size) rfl dX1_size_163
abbrev YX1_trouble : mY := (RX1, cX1_trouble, 1, (Option.some .int), 0, 0, false)
theorem YOK_X1_trouble : YOK yX1_trouble 0 := ⟨⟨by decide +kernel, by decide +kernel⟩, by decide +kernel⟩
theorem mX1_trouble {G : gG} (s0 : St) {this : Nat} {vE : Int32} (h : sX1_trouble s0 this = some vE) : Mt G YX1_trouble yX1_trouble [rV (some this)] s0 (some (iV vE)) s0 := by
  refine go_start (ls0 := [(0, rV (some this))]) (by decide +kernel) rfl (fun h => by cases h) (Nat.le_of_ble_eq_true rfl) rfl ?_
  revert h
  unfold sX1_trouble
  refine im (go_aload_n (pc := 0) (Y := YX1_trouble) 0 dX1_trouble_0 rfl rfl) ?_
  refine flp (go_gI (pc := 1) (Y := YX1_trouble) fF3 (by decide) q200 (Or.inl rfl) dX1_trouble_1) (fun v1 => ?_)
  refine e1 (fun q0 => ?_)
  subst q0
  exact go_iret (pc := 4) (Y := YX1_trouble) rfl dX1_trouble_4
