/-! WALKS (by gen/mkwalk.py out of the bytecode) -/
set_option maxRecDepth 100000
abbrev YX2_init : mY := (RX2, cX2_init, 1, (Option.none : Option Jvm.ClassFile.FieldType), 1, 26, true)
theorem YOK_X2_init : YOK yX2_init 0 := ⟨⟨by decide +kernel, by decide +kernel⟩, by decide +kernel⟩
theorem mX2_init {G : gG} (s0 : St) {this : Nat} {sE : St} (h : sX2_init s0 this = some sE) : Mt G YX2_init yX2_init [rV (some this)] s0 none sE := by
  refine go_start (ls0 := [(0, rV (some this))]) (by decide +kernel) rfl (fun _ => rfl) (Nat.le_of_ble_eq_true rfl) rfl ?_
  revert h
  unfold sX2_init
  refine im (go_aload_n (pc := 0) (Y := YX2_init) 0 dX2_init_0 rfl rfl) ?_
  refine im (go_objI (pc := 1) (Y := YX2_init) q1632 (Nat.le_of_ble_eq_true rfl) (Nat.le_of_ble_eq_true rfl) q167 q168 dX2_init_1) ?_
  refine im (go_aload_n (pc := 4) (Y := YX2_init) 0 dX2_init_4 rfl rfl) ?_
  refine im (go_sipush (pc := 5) (Y := YX2_init) (v := 900) dX2_init_5 rfl) ?_
  refine flp (go_nwA1 (pc := 8) (Y := YX2_init) dX2_init_8) (fun s1 a2 => ?_)
  refine flp (go_pR (pc := 10) (Y := YX2_init) fF1009 (by decide) q1634 (Or.inl rfl) (Or.inr ⟨rfl, rfl⟩) rfl (Or.inr ⟨_, rfl⟩) dX2_init_10) (fun s3 => ?_)
  refine im (go_aload_n (pc := 13) (Y := YX2_init) 0 dX2_init_13 rfl rfl) ?_
  refine im (go_iconst (pc := 14) (Y := YX2_init) (v := -1) dX2_init_14 rfl) ?_
  refine flp (go_pI (pc := 15) (Y := YX2_init) fF28 (by decide) q1643 (Or.inl rfl) (Or.inl rfl) rfl rfl rfl dX2_init_15) (fun s4 => ?_)
  refine im (go_aload_n (pc := 18) (Y := YX2_init) 0 dX2_init_18 rfl rfl) ?_
  refine im (go_bipush (pc := 19) (Y := YX2_init) (v := 8) dX2_init_19 rfl) ?_
  refine flp (go_nwA1 (pc := 21) (Y := YX2_init) dX2_init_21) (fun s5 a6 => ?_)
  refine flp (go_pR (pc := 23) (Y := YX2_init) fF1010 (by decide) q1645 (Or.inl rfl) (Or.inr ⟨rfl, rfl⟩) rfl (Or.inr ⟨_, rfl⟩) dX2_init_23) (fun s7 => ?_)
  refine im (go_aload_n (pc := 26) (Y := YX2_init) 0 dX2_init_26 rfl rfl) ?_
  refine im (go_sipush (pc := 27) (Y := YX2_init) (v := 241) dX2_init_27 rfl) ?_
  refine flp (go_nwA1 (pc := 30) (Y := YX2_init) dX2_init_30) (fun s8 a9 => ?_)
  refine flp (go_pR (pc := 32) (Y := YX2_init) fF1011 (by decide) q1648 (Or.inl rfl) (Or.inr ⟨rfl, rfl⟩) rfl (Or.inr ⟨_, rfl⟩) dX2_init_32) (fun s10 => ?_)
  refine im (go_aload_n (pc := 35) (Y := YX2_init) 0 dX2_init_35 rfl rfl) ?_
  refine im (go_sipush (pc := 36) (Y := YX2_init) (v := 241) dX2_init_36 rfl) ?_
  refine flp (go_nwA1 (pc := 39) (Y := YX2_init) dX2_init_39) (fun s11 a12 => ?_)
  refine flp (go_pR (pc := 41) (Y := YX2_init) fF1012 (by decide) q1649 (Or.inl rfl) (Or.inr ⟨rfl, rfl⟩) rfl (Or.inr ⟨_, rfl⟩) dX2_init_41) (fun s13 => ?_)
  refine im (go_aload_n (pc := 44) (Y := YX2_init) 0 dX2_init_44 rfl rfl) ?_
  refine im (go_bipush (pc := 45) (Y := YX2_init) (v := 8) dX2_init_45 rfl) ?_
  refine flp (go_nwA1 (pc := 47) (Y := YX2_init) dX2_init_47) (fun s14 a15 => ?_)
  refine flp (go_pR (pc := 49) (Y := YX2_init) fF1013 (by decide) q1650 (Or.inl rfl) (Or.inr ⟨rfl, rfl⟩) rfl (Or.inr ⟨_, rfl⟩) dX2_init_49) (fun s16 => ?_)
  refine im (go_aload_n (pc := 52) (Y := YX2_init) 0 dX2_init_52 rfl rfl) ?_
  refine im (go_sipush (pc := 53) (Y := YX2_init) (v := 128) dX2_init_53 rfl) ?_
  refine flp (go_nwA1 (pc := 56) (Y := YX2_init) dX2_init_56) (fun s17 a18 => ?_)
  refine flp (go_pR (pc := 58) (Y := YX2_init) fF1014 (by decide) q1651 (Or.inl rfl) (Or.inr ⟨rfl, rfl⟩) rfl (Or.inr ⟨_, rfl⟩) dX2_init_58) (fun s19 => ?_)
  refine im (go_aload_n (pc := 61) (Y := YX2_init) 0 dX2_init_61 rfl rfl) ?_
  refine im (go_bipush (pc := 62) (Y := YX2_init) (v := 24) dX2_init_62 rfl) ?_
  refine flp (go_nwA1 (pc := 64) (Y := YX2_init) dX2_init_64) (fun s20 a21 => ?_)
  refine flp (go_pR (pc := 66) (Y := YX2_init) fF1015 (by decide) q1652 (Or.inl rfl) (Or.inr ⟨rfl, rfl⟩) rfl (Or.inr ⟨_, rfl⟩) dX2_init_66) (fun s22 => ?_)
  refine im (go_aload_n (pc := 69) (Y := YX2_init) 0 dX2_init_69 rfl rfl) ?_
  refine im (go_bipush (pc := 70) (Y := YX2_init) (v := 8) dX2_init_70 rfl) ?_
  refine flp (go_nwA1 (pc := 72) (Y := YX2_init) dX2_init_72) (fun s23 a24 => ?_)
  refine flp (go_pR (pc := 74) (Y := YX2_init) fF1016 (by decide) q1655 (Or.inl rfl) (Or.inr ⟨rfl, rfl⟩) rfl (Or.inr ⟨_, rfl⟩) dX2_init_74) (fun s25 => ?_)
  refine im (go_aload_n (pc := 77) (Y := YX2_init) 0 dX2_init_77 rfl rfl) ?_
  refine im (go_bipush (pc := 78) (Y := YX2_init) (v := 6) dX2_init_78 rfl) ?_
  refine flp (go_nwA1 (pc := 80) (Y := YX2_init) dX2_init_80) (fun s26 a27 => ?_)
  refine flp (go_pR (pc := 82) (Y := YX2_init) fF1017 (by decide) q1656 (Or.inl rfl) (Or.inr ⟨rfl, rfl⟩) rfl (Or.inr ⟨_, rfl⟩) dX2_init_82) (fun s28 => ?_)
  refine im (go_aload_n (pc := 85) (Y := YX2_init) 0 dX2_init_85 rfl rfl) ?_
  refine im (go_bipush (pc := 86) (Y := YX2_init) (v := 6) dX2_init_86 rfl) ?_
  refine flp (go_nwA1 (pc := 88) (Y := YX2_init) dX2_init_88) (fun s29 a30 => ?_)
  refine flp (go_pR (pc := 90) (Y := YX2_init) fF1018 (by decide) q1657 (Or.inl rfl) (Or.inr ⟨rfl, rfl⟩) rfl (Or.inr ⟨_, rfl⟩) dX2_init_90) (fun s31 => ?_)
  refine im (go_aload_n (pc := 93) (Y := YX2_init) 0 dX2_init_93 rfl rfl) ?_
  refine im (go_iconst (pc := 94) (Y := YX2_init) (v := 4) dX2_init_94 rfl) ?_
  refine flp (go_nwA1 (pc := 95) (Y := YX2_init) dX2_init_95) (fun s32 a33 => ?_)
  refine flp (go_pR (pc := 97) (Y := YX2_init) fF1019 (by decide) q1665 (Or.inl rfl) (Or.inr ⟨rfl, rfl⟩) rfl (Or.inr ⟨_, rfl⟩) dX2_init_97) (fun s34 => ?_)
  refine e1 (fun q0 => ?_)
  subst q0
  exact go_vret (pc := 100) (Y := YX2_init) rfl dX2_init_100
abbrev YX2_feed : mY := (RX2, cX2_feed, 8, (Option.some .int), 0, 0, false)
theorem YOK_X2_feed : YOK yX2_feed 5 := ⟨⟨by decide +kernel, by decide +kernel⟩, by decide +kernel⟩
theorem sX2_feed_L23_go {G : gG} {s0 sE : St} {rE : Option V3} (this : Nat) (i1 : Int32) (i2 : Int32) (i3 : Int32) (i4 : Int32) (i5 : Int32) : ∀ (n : Nat) (s3 : St) (v4 : Int32) (s5 : St), sX2_feed_L23 this i1 i2 i3 i4 i5 n s3 v4 = some s5 → Go G YX2_feed s0 sE rE 120 [(0, rV (some this))] [] s5 → Go G YX2_feed s0 sE rE 23 [(0, rV (some this)), (1, iV i1), (2, iV i2), (3, iV i3), (4, iV i4), (5, iV i5), (6, iV v4)] [] s3 := by
  intro n
  induction n with
  | zero => intro s3 v4 s5 h hx; rw [sX2_feed_L23] at h; cases h
  | succ n ih =>
    intro s3 v4 s5 h hx
    revert h
    rw [sX2_feed_L23]
    refine im (go_iload (pc := 23) (Y := YX2_feed) 6 dX2_feed_23 rfl) ?_
    refine im (go_bipush (pc := 25) (Y := YX2_feed) (v := 20) dX2_feed_25 rfl) ?_
    refine flp2 (go_icmp_ge (pc := 27) (Y := YX2_feed) 120 dX2_feed_27 (by decide)) ?_ ?_
    · refine e1 (fun q0 => ?_)
      subst q0
      exact go_sub [0] rfl hx
    · refine im (go_iload (pc := 30) (Y := YX2_feed) 6 dX2_feed_30 rfl) ?_
      refine im (go_iconst (pc := 32) (Y := YX2_feed) (v := 4) dX2_feed_32 rfl) ?_
      refine bpg (fun v6 he12 h13 => ?_)
      have hj76 : Go G YX2_feed s0 sE rE 76 [(0, rV (some this)), (1, iV i1), (2, iV i2), (3, iV i3), (4, iV i4), (5, iV i5), (6, iV v4)] [iV v6] s3 := by
        clear he12
        revert h13
        refine im (go_istore (pc := 76) (Y := YX2_feed) (ls2 := [(7, iV v6), (0, rV (some this)), (1, iV i1), (2, iV i2), (3, iV i3), (4, iV i4), (5, iV i5), (6, iV v4)]) dX2_feed_76 (Nat.le_of_ble_eq_true rfl) rfl) ?_
        refine im (go_aload_n (pc := 78) (Y := YX2_feed) 1 dX2_feed_78 rfl rfl) ?_
        refine flp (go_gR (pc := 79) (Y := YX2_feed) fF1009 (by decide) q1634 (Or.inl rfl) dX2_feed_79) (fun v7 => ?_)
        refine im (go_aload_n (pc := 82) (Y := YX2_feed) 1 dX2_feed_82 rfl rfl) ?_
        refine flp (go_gI (pc := 83) (Y := YX2_feed) fF20 (by decide) q1635 (Or.inl rfl) dX2_feed_83) (fun v8 => ?_)
        refine im (go_iload (pc := 86) (Y := YX2_feed) 0 dX2_feed_86 rfl) ?_
        refine im (go_bipush (pc := 88) (Y := YX2_feed) (v := 24) dX2_feed_88 rfl) ?_
        refine im (go_bipush (pc := 90) (Y := YX2_feed) (v := 8) dX2_feed_90 rfl) ?_
        refine im (go_iload (pc := 92) (Y := YX2_feed) 7 dX2_feed_92 rfl) ?_
        refine im (go_iconst (pc := 94) (Y := YX2_feed) (v := 4) dX2_feed_94 rfl) ?_
        refine flp (go_irem (pc := 95) (Y := YX2_feed) dX2_feed_95) (fun h => ?_)
        revert h
        refine im (go_imul (pc := 96) (Y := YX2_feed) dX2_feed_96) ?_
        refine im (go_isub (pc := 97) (Y := YX2_feed) dX2_feed_97) ?_
        refine im (go_ishr (pc := 98) (Y := YX2_feed) dX2_feed_98) ?_
        refine im (go_sipush (pc := 99) (Y := YX2_feed) (v := 255) dX2_feed_99 rfl) ?_
        refine im (go_iand (pc := 102) (Y := YX2_feed) dX2_feed_102) ?_
        refine flp (go_tI (pc := 103) (Y := YX2_feed) dX2_feed_103) (fun s9 => ?_)
        refine im (go_aload_n (pc := 104) (Y := YX2_feed) 1 dX2_feed_104 rfl rfl) ?_
        refine im (go_dup (pc := 105) (Y := YX2_feed) dX2_feed_105 rfl) ?_
        refine flp (go_gI (pc := 106) (Y := YX2_feed) fF20 (by decide) q1635 (Or.inl rfl) dX2_feed_106) (fun v10 => ?_)
        refine im (go_iconst (pc := 109) (Y := YX2_feed) (v := 1) dX2_feed_109 rfl) ?_
        refine im (go_iadd (pc := 110) (Y := YX2_feed) dX2_feed_110) ?_
        refine flp (go_pI (pc := 111) (Y := YX2_feed) fF20 (by decide) q1635 (Or.inl rfl) (Or.inl rfl) rfl rfl rfl dX2_feed_111) (fun s11 => ?_)
        refine im (go_iinc (pc := 114) (Y := YX2_feed) 7 (v := (v4 + 1)) (ls2 := [(6, iV (v4 + 1)), (7, iV v6), (0, rV (some this)), (1, iV i1), (2, iV i2), (3, iV i3), (4, iV i4), (5, iV i5)]) dX2_feed_114 rfl rfl (Nat.le_of_ble_eq_true rfl) rfl) ?_
        refine im (go_goto (pc := 117) (Y := YX2_feed) 23 dX2_feed_117 (by decide)) ?_
        exact fun hq => go_sub [2, 3, 4, 5, 6, 7, 0] rfl (ih _ _ _ hq hx)
      clear h13
      revert he12
      refine flp2 (go_icmp_ge (pc := 33) (Y := YX2_feed) 40 dX2_feed_33 (by decide)) ?_ ?_
      · refine im (go_iload (pc := 40) (Y := YX2_feed) 6 dX2_feed_40 rfl) ?_
        refine im (go_bipush (pc := 42) (Y := YX2_feed) (v := 8) dX2_feed_42 rfl) ?_
        refine flp2 (go_icmp_ge (pc := 44) (Y := YX2_feed) 51 dX2_feed_44 (by decide)) ?_ ?_
        · refine im (go_iload (pc := 51) (Y := YX2_feed) 6 dX2_feed_51 rfl) ?_
          refine im (go_bipush (pc := 53) (Y := YX2_feed) (v := 12) dX2_feed_53 rfl) ?_
          refine flp2 (go_icmp_ge (pc := 55) (Y := YX2_feed) 62 dX2_feed_55 (by decide)) ?_ ?_
          · refine im (go_iload (pc := 62) (Y := YX2_feed) 6 dX2_feed_62 rfl) ?_
            refine im (go_bipush (pc := 64) (Y := YX2_feed) (v := 16) dX2_feed_64 rfl) ?_
            refine flp2 (go_icmp_ge (pc := 66) (Y := YX2_feed) 74 dX2_feed_66 (by decide)) ?_ ?_
            · refine im (go_iload (pc := 74) (Y := YX2_feed) 5 dX2_feed_74 rfl) ?_
              refine e1 (fun q0 => ?_)
              subst q0
              exact go_sub [0, 1, 2, 3, 4, 5, 6] rfl hj76
            · refine im (go_iload (pc := 69) (Y := YX2_feed) 4 dX2_feed_69 rfl) ?_
              refine im (go_goto (pc := 71) (Y := YX2_feed) 76 dX2_feed_71 (by decide)) ?_
              refine e1 (fun q0 => ?_)
              subst q0
              exact go_sub [0, 1, 2, 3, 4, 5, 6] rfl hj76
          · refine im (go_iload_n (pc := 58) (Y := YX2_feed) 3 dX2_feed_58 rfl rfl) ?_
            refine im (go_goto (pc := 59) (Y := YX2_feed) 76 dX2_feed_59 (by decide)) ?_
            refine e1 (fun q0 => ?_)
            subst q0
            exact go_sub [0, 1, 2, 3, 4, 5, 6] rfl hj76
        · refine im (go_iload_n (pc := 47) (Y := YX2_feed) 2 dX2_feed_47 rfl rfl) ?_
          refine im (go_goto (pc := 48) (Y := YX2_feed) 76 dX2_feed_48 (by decide)) ?_
          refine e1 (fun q0 => ?_)
          subst q0
          exact go_sub [0, 1, 2, 3, 4, 5, 6] rfl hj76
      · refine im (go_iload_n (pc := 36) (Y := YX2_feed) 1 dX2_feed_36 rfl rfl) ?_
        refine im (go_goto (pc := 37) (Y := YX2_feed) 76 dX2_feed_37 (by decide)) ?_
        refine e1 (fun q0 => ?_)
        subst q0
        exact go_sub [0, 1, 2, 3, 4, 5, 6] rfl hj76
theorem mX2_feed {G : gG} (s0 : St) {this : Nat} {p0 : Int32} {p1 : Int32} {p2 : Int32} {p3 : Int32} {p4 : Int32} {sE : St} {vE : Int32} (h : sX2_feed s0 this p0 p1 p2 p3 p4 = some (sE, vE)) : Mt G YX2_feed yX2_feed [rV (some this), iV p0, iV p1, iV p2, iV p3, iV p4] s0 (some (iV vE)) sE := by
  refine go_start (ls0 := [(0, rV (some this)), (1, iV p0), (2, iV p1), (3, iV p2), (4, iV p3), (5, iV p4)]) (by decide +kernel) rfl (fun h => by cases h) (Nat.le_of_ble_eq_true rfl) rfl ?_
  revert h
  unfold sX2_feed
  refine im (go_aload_n (pc := 0) (Y := YX2_feed) 0 dX2_feed_0 rfl rfl) ?_
  refine im (go_iconst (pc := 1) (Y := YX2_feed) (v := 0) dX2_feed_1 rfl) ?_
  refine flp (go_pI (pc := 2) (Y := YX2_feed) fF19 (by decide) q1633 (Or.inl rfl) (Or.inl rfl) rfl rfl rfl dX2_feed_2) (fun s1 => ?_)
  refine im (go_aload_n (pc := 5) (Y := YX2_feed) 0 dX2_feed_5 rfl rfl) ?_
  refine flp (go_gI (pc := 6) (Y := YX2_feed) fF20 (by decide) q1635 (Or.inl rfl) dX2_feed_6) (fun v2 => ?_)
  refine im (go_bipush (pc := 9) (Y := YX2_feed) (v := 20) dX2_feed_9 rfl) ?_
  refine im (go_iadd (pc := 11) (Y := YX2_feed) dX2_feed_11) ?_
  refine im (go_sipush (pc := 12) (Y := YX2_feed) (v := 900) dX2_feed_12 rfl) ?_
  refine flp2 (go_icmp_le (pc := 15) (Y := YX2_feed) 20 dX2_feed_15 (by decide)) ?_ ?_
  · refine im (go_iconst (pc := 20) (Y := YX2_feed) (v := 0) dX2_feed_20 rfl) ?_
    refine im (go_istore (pc := 21) (Y := YX2_feed) (ls2 := [(6, iV 0), (0, rV (some this)), (1, iV p0), (2, iV p1), (3, iV p2), (4, iV p3), (5, iV p4)]) dX2_feed_21 (Nat.le_of_ble_eq_true rfl) rfl) ?_
    refine bpg (fun s14 he16 h17 => ?_)
    refine go_sub [1, 2, 3, 4, 5, 6, 0] rfl (sX2_feed_L23_go this p0 p1 p2 p3 p4 FU _ _ _ he16 ?_)
    clear he16
    revert h17
    refine im (go_aload_n (pc := 120) (Y := YX2_feed) 0 dX2_feed_120 rfl rfl) ?_
    refine flp (go_gI (pc := 121) (Y := YX2_feed) fF20 (by decide) q1635 (Or.inl rfl) dX2_feed_121) (fun v15 => ?_)
    refine e2 (fun q0 q1 => ?_)
    subst q0
    subst q1
    exact go_iret (pc := 124) (Y := YX2_feed) rfl dX2_feed_124
  · refine im (go_iconst (pc := 18) (Y := YX2_feed) (v := -1) dX2_feed_18 rfl) ?_
    refine e2 (fun q0 q1 => ?_)
    subst q0
    subst q1
    exact go_iret (pc := 19) (Y := YX2_feed) rfl dX2_feed_19
abbrev YX2_good : mY := (RX2, cX2_good, 1, (Option.none : Option Jvm.ClassFile.FieldType), 0, 0, false)
theorem YOK_X2_good : YOK yX2_good 0 := ⟨⟨by decide +kernel, by decide +kernel⟩, by decide +kernel⟩
theorem mX2_good {G : gG} (s0 : St) {this : Nat} {sE : St} (h : sX2_good s0 this = some sE) : Mt G YX2_good yX2_good [rV (some this)] s0 none sE := by
  refine go_start (ls0 := [(0, rV (some this))]) (by decide +kernel) rfl (fun h => by cases h) (Nat.le_of_ble_eq_true rfl) rfl ?_
  revert h
  unfold sX2_good
  refine im (go_aload_n (pc := 0) (Y := YX2_good) 0 dX2_good_0 rfl rfl) ?_
  refine im (go_iconst (pc := 1) (Y := YX2_good) (v := 0) dX2_good_1 rfl) ?_
  refine flp (go_pI (pc := 2) (Y := YX2_good) fF19 (by decide) q1633 (Or.inl rfl) (Or.inl rfl) rfl rfl rfl dX2_good_2) (fun s1 => ?_)
  refine im (go_aload_n (pc := 5) (Y := YX2_good) 0 dX2_good_5 rfl rfl) ?_
  refine im (go_iconst (pc := 6) (Y := YX2_good) (v := 0) dX2_good_6 rfl) ?_
  refine flp (go_pI (pc := 7) (Y := YX2_good) fF29 (by decide) q1644 (Or.inl rfl) (Or.inl rfl) rfl rfl rfl dX2_good_7) (fun s2 => ?_)
  refine e1 (fun q0 => ?_)
  subst q0
  exact go_vret (pc := 10) (Y := YX2_good) rfl dX2_good_10
abbrev YX2_in : mY := (RX2, cX2_in, 3, (Option.some .boolean), 0, 0, false)
theorem YOK_X2_in : YOK yX2_in 3 := ⟨⟨by decide +kernel, by decide +kernel⟩, by decide +kernel⟩
theorem mX2_in {G : gG} (s0 : St) {p0 : Int32} {p1 : Int32} {p2 : Int32} {vE : Int32} (h : sX2_in s0 p0 p1 p2 = some vE) : Mt G YX2_in yX2_in [iV p0, iV p1, iV p2] s0 (some (iV vE)) s0 := by
  refine go_start (ls0 := [(0, iV p0), (1, iV p1), (2, iV p2)]) (by decide +kernel) rfl (fun h => by cases h) (Nat.le_of_ble_eq_true rfl) rfl ?_
  revert h
  unfold sX2_in
  refine im (go_iload_n (pc := 0) (Y := YX2_in) 0 dX2_in_0 rfl rfl) ?_
  refine im (go_iload_n (pc := 1) (Y := YX2_in) 1 dX2_in_1 rfl rfl) ?_
  refine flp2 (go_icmp_lt (pc := 2) (Y := YX2_in) 14 dX2_in_2 (by decide)) ?_ ?_
  · refine im (go_iconst (pc := 14) (Y := YX2_in) (v := 0) dX2_in_14 rfl) ?_
    refine e1 (fun q0 => ?_)
    subst q0
    exact go_zret (pc := 15) (Y := YX2_in) rfl rfl dX2_in_15
  · refine im (go_iload_n (pc := 5) (Y := YX2_in) 0 dX2_in_5 rfl rfl) ?_
    refine im (go_iload_n (pc := 6) (Y := YX2_in) 2 dX2_in_6 rfl rfl) ?_
    refine flp2 (go_icmp_gt (pc := 7) (Y := YX2_in) 14 dX2_in_7 (by decide)) ?_ ?_
    · refine im (go_iconst (pc := 14) (Y := YX2_in) (v := 0) dX2_in_14 rfl) ?_
      refine e1 (fun q0 => ?_)
      subst q0
      exact go_zret (pc := 15) (Y := YX2_in) rfl rfl dX2_in_15
    · refine im (go_iconst (pc := 10) (Y := YX2_in) (v := 1) dX2_in_10 rfl) ?_
      refine im (go_goto (pc := 11) (Y := YX2_in) 15 dX2_in_11 (by decide)) ?_
      refine e1 (fun q0 => ?_)
      subst q0
      exact go_zret (pc := 15) (Y := YX2_in) rfl rfl dX2_in_15
abbrev YX2_no : mY := (RX2, cX2_no, 2, (Option.some .int), 0, 0, false)
theorem YOK_X2_no : YOK yX2_no 1 := ⟨⟨by decide +kernel, by decide +kernel⟩, by decide +kernel⟩
theorem mX2_no {G : gG} (s0 : St) {this : Nat} {p0 : Int32} {sE : St} {vE : Int32} (h : sX2_no s0 this p0 = some (sE, vE)) : Mt G YX2_no yX2_no [rV (some this), iV p0] s0 (some (iV vE)) sE := by
  refine go_start (ls0 := [(0, rV (some this)), (1, iV p0)]) (by decide +kernel) rfl (fun h => by cases h) (Nat.le_of_ble_eq_true rfl) rfl ?_
  revert h
  unfold sX2_no
  refine im (go_aload_n (pc := 0) (Y := YX2_no) 0 dX2_no_0 rfl rfl) ?_
  refine im (go_iload_n (pc := 1) (Y := YX2_no) 1 dX2_no_1 rfl rfl) ?_
  refine flp (go_pI (pc := 2) (Y := YX2_no) fF29 (by decide) q1644 (Or.inl rfl) (Or.inl rfl) rfl rfl rfl dX2_no_2) (fun s1 => ?_)
  refine im (go_iconst (pc := 5) (Y := YX2_no) (v := -1) dX2_no_5 rfl) ?_
  refine e2 (fun q0 q1 => ?_)
  subst q0
  subst q1
  exact go_iret (pc := 6) (Y := YX2_no) rfl dX2_no_6
abbrev YX2_see : mY := (RX2, cX2_see, 2, (Option.some .int), 0, 0, false)
theorem YOK_X2_see : YOK yX2_see 1 := ⟨⟨by decide +kernel, by decide +kernel⟩, by decide +kernel⟩
theorem mX2_see {G : gG} (s0 : St) {this : Nat} {p0 : Int32} {vE : Int32} (h : sX2_see s0 this p0 = some vE) : Mt G YX2_see yX2_see [rV (some this), iV p0] s0 (some (iV vE)) s0 := by
  refine go_start (ls0 := [(0, rV (some this)), (1, iV p0)]) (by decide +kernel) rfl (fun h => by cases h) (Nat.le_of_ble_eq_true rfl) rfl ?_
  revert h
  unfold sX2_see
  refine im (go_iload_n (pc := 0) (Y := YX2_see) 1 dX2_see_0 rfl rfl) ?_
  refine im (go_aload_n (pc := 1) (Y := YX2_see) 0 dX2_see_1 rfl rfl) ?_
  refine flp (go_gI (pc := 2) (Y := YX2_see) fF21 (by decide) q1636 (Or.inl rfl) dX2_see_2) (fun v1 => ?_)
  refine flp2 (go_icmp_ge (pc := 5) (Y := YX2_see) 17 dX2_see_5 (by decide)) ?_ ?_
  · refine im (go_iconst (pc := 17) (Y := YX2_see) (v := -1) dX2_see_17 rfl) ?_
    refine e1 (fun q0 => ?_)
    subst q0
    exact go_iret (pc := 18) (Y := YX2_see) rfl dX2_see_18
  · refine im (go_aload_n (pc := 8) (Y := YX2_see) 0 dX2_see_8 rfl rfl) ?_
    refine flp (go_gR (pc := 9) (Y := YX2_see) fF1009 (by decide) q1634 (Or.inl rfl) dX2_see_9) (fun v2 => ?_)
    refine im (go_iload_n (pc := 12) (Y := YX2_see) 1 dX2_see_12 rfl rfl) ?_
    refine flp (go_lI1 (pc := 13) (Y := YX2_see) dX2_see_13) (fun v3 => ?_)
    refine im (go_goto (pc := 14) (Y := YX2_see) 18 dX2_see_14 (by decide)) ?_
    refine e1 (fun q0 => ?_)
    subst q0
    exact go_iret (pc := 18) (Y := YX2_see) rfl dX2_see_18
abbrev YX2_isSmall : mY := (RX2, cX2_isSmall, 1, (Option.some .boolean), 0, 0, false)
theorem YOK_X2_isSmall : YOK yX2_isSmall 1 := ⟨⟨by decide +kernel, by decide +kernel⟩, by decide +kernel⟩
theorem mX2_isSmall {G : gG} (s0 : St) {p0 : Int32} {vE : Int32} (h : sX2_isSmall s0 p0 = some vE) : Mt G YX2_isSmall yX2_isSmall [iV p0] s0 (some (iV vE)) s0 := by
  refine go_start (ls0 := [(0, iV p0)]) (by decide +kernel) rfl (fun h => by cases h) (Nat.le_of_ble_eq_true rfl) rfl ?_
  revert h
  unfold sX2_isSmall
  refine im (go_iload_n (pc := 0) (Y := YX2_isSmall) 0 dX2_isSmall_0 rfl rfl) ?_
  refine im (go_bipush (pc := 1) (Y := YX2_isSmall) (v := 97) dX2_isSmall_1 rfl) ?_
  refine flp2 (go_icmp_lt (pc := 3) (Y := YX2_isSmall) 16 dX2_isSmall_3 (by decide)) ?_ ?_
  · refine im (go_iconst (pc := 16) (Y := YX2_isSmall) (v := 0) dX2_isSmall_16 rfl) ?_
    refine e1 (fun q0 => ?_)
    subst q0
    exact go_zret (pc := 17) (Y := YX2_isSmall) rfl rfl dX2_isSmall_17
  · refine im (go_iload_n (pc := 6) (Y := YX2_isSmall) 0 dX2_isSmall_6 rfl rfl) ?_
    refine im (go_bipush (pc := 7) (Y := YX2_isSmall) (v := 122) dX2_isSmall_7 rfl) ?_
    refine flp2 (go_icmp_gt (pc := 9) (Y := YX2_isSmall) 16 dX2_isSmall_9 (by decide)) ?_ ?_
    · refine im (go_iconst (pc := 16) (Y := YX2_isSmall) (v := 0) dX2_isSmall_16 rfl) ?_
      refine e1 (fun q0 => ?_)
      subst q0
      exact go_zret (pc := 17) (Y := YX2_isSmall) rfl rfl dX2_isSmall_17
    · refine im (go_iconst (pc := 12) (Y := YX2_isSmall) (v := 1) dX2_isSmall_12 rfl) ?_
      refine im (go_goto (pc := 13) (Y := YX2_isSmall) 17 dX2_isSmall_13 (by decide)) ?_
      refine e1 (fun q0 => ?_)
      subst q0
      exact go_zret (pc := 17) (Y := YX2_isSmall) rfl rfl dX2_isSmall_17
abbrev YX2_isDigit : mY := (RX2, cX2_isDigit, 1, (Option.some .boolean), 0, 0, false)
theorem YOK_X2_isDigit : YOK yX2_isDigit 1 := ⟨⟨by decide +kernel, by decide +kernel⟩, by decide +kernel⟩
theorem mX2_isDigit {G : gG} (s0 : St) {p0 : Int32} {vE : Int32} (h : sX2_isDigit s0 p0 = some vE) : Mt G YX2_isDigit yX2_isDigit [iV p0] s0 (some (iV vE)) s0 := by
  refine go_start (ls0 := [(0, iV p0)]) (by decide +kernel) rfl (fun h => by cases h) (Nat.le_of_ble_eq_true rfl) rfl ?_
  revert h
  unfold sX2_isDigit
  refine im (go_iload_n (pc := 0) (Y := YX2_isDigit) 0 dX2_isDigit_0 rfl rfl) ?_
  refine im (go_bipush (pc := 1) (Y := YX2_isDigit) (v := 48) dX2_isDigit_1 rfl) ?_
  refine flp2 (go_icmp_lt (pc := 3) (Y := YX2_isDigit) 16 dX2_isDigit_3 (by decide)) ?_ ?_
  · refine im (go_iconst (pc := 16) (Y := YX2_isDigit) (v := 0) dX2_isDigit_16 rfl) ?_
    refine e1 (fun q0 => ?_)
    subst q0
    exact go_zret (pc := 17) (Y := YX2_isDigit) rfl rfl dX2_isDigit_17
  · refine im (go_iload_n (pc := 6) (Y := YX2_isDigit) 0 dX2_isDigit_6 rfl rfl) ?_
    refine im (go_bipush (pc := 7) (Y := YX2_isDigit) (v := 57) dX2_isDigit_7 rfl) ?_
    refine flp2 (go_icmp_gt (pc := 9) (Y := YX2_isDigit) 16 dX2_isDigit_9 (by decide)) ?_ ?_
    · refine im (go_iconst (pc := 16) (Y := YX2_isDigit) (v := 0) dX2_isDigit_16 rfl) ?_
      refine e1 (fun q0 => ?_)
      subst q0
      exact go_zret (pc := 17) (Y := YX2_isDigit) rfl rfl dX2_isDigit_17
    · refine im (go_iconst (pc := 12) (Y := YX2_isDigit) (v := 1) dX2_isDigit_12 rfl) ?_
      refine im (go_goto (pc := 13) (Y := YX2_isDigit) 17 dX2_isDigit_13 (by decide)) ?_
      refine e1 (fun q0 => ?_)
      subst q0
      exact go_zret (pc := 17) (Y := YX2_isDigit) rfl rfl dX2_isDigit_17
abbrev YX2_next : mY := (RX2, cX2_next, 4, (Option.none : Option Jvm.ClassFile.FieldType), 1, 21, false)
theorem YOK_X2_next : YOK yX2_next 0 := ⟨⟨by decide +kernel, by decide +kernel⟩, by decide +kernel⟩
theorem sX2_next_L5_go {G : gG} {s0 sE : St} {rE : Option V3} (s2 : St) (this : Nat) : ∀ (n : Nat) (v3 : Int32) (v4 : Int32), sX2_next_L5 s2 this n v3 = some v4 → Go G YX2_next s0 sE rE 21 [(0, rV (some this)), (1, iV v4)] [] s2 → Go G YX2_next s0 sE rE 5 [(0, rV (some this)), (1, iV v3)] [] s2 := by
  intro n
  induction n with
  | zero => intro v3 v4 h hx; rw [sX2_next_L5] at h; cases h
  | succ n ih =>
    intro v3 v4 h hx
    revert h
    rw [sX2_next_L5]
    refine im (go_aload_n (pc := 5) (Y := YX2_next) 0 dX2_next_5 rfl rfl) ?_
    refine im (go_iload_n (pc := 6) (Y := YX2_next) 1 dX2_next_6 rfl rfl) ?_
    refine kdg (fun k5 => ?_)
    refine bpg (fun v6 he7 => ?_)
    refine im (go_callV (pc := 7) (Y := YX2_next) (Yc := YX2_see) (y := yX2_see) (n := 1) (c0 := 2) (q := (RX2, TX2, 37)) this [iV v3] [] rfl rfl k5 (mX2_see s2 he7) YOK_X2_see rfl q1775 q133 q1774 qs69 q1772 (Nat.le_of_ble_eq_true rfl) (Nat.le_of_ble_eq_true rfl) (Nat.le_of_ble_eq_true rfl) dX2_next_7 (st2 := [iV v6]) rfl) ?_
    clear he7
    refine im (go_bipush (pc := 10) (Y := YX2_next) (v := 32) dX2_next_10 rfl) ?_
    refine flp2 (go_icmp_ne (pc := 12) (Y := YX2_next) 21 dX2_next_12 (by decide)) ?_ ?_
    · refine im (go_iinc (pc := 15) (Y := YX2_next) 1 (v := (v3 + 1)) (ls2 := [(1, iV (v3 + 1)), (0, rV (some this))]) dX2_next_15 rfl rfl (Nat.le_of_ble_eq_true rfl) rfl) ?_
      refine im (go_goto (pc := 18) (Y := YX2_next) 5 dX2_next_18 (by decide)) ?_
      exact fun hq => go_sub [1, 0] rfl (ih _ _ hq hx)
    · refine e1 (fun q0 => ?_)
      subst q0
      exact go_sub [0, 1] rfl hx
theorem sX2_next_L152_go {G : gG} {s0 sE : St} {rE : Option V3} (this : Nat) : ∀ (n : Nat) (s26 : St) (v27 : Int32) (v28 : Int32) (s29 : St) (v30 : Int32) (v31 : Int32), sX2_next_L152 this n s26 v27 v28 = some (s29, v30, v31) → Go G YX2_next s0 sE rE 197 [(0, rV (some this)), (1, iV v30), (3, iV v31)] [] s29 → Go G YX2_next s0 sE rE 152 [(0, rV (some this)), (1, iV v27), (3, iV v28)] [] s26 := by
  intro n
  induction n with
  | zero => intro s26 v27 v28 s29 v30 v31 h hx; rw [sX2_next_L152] at h; cases h
  | succ n ih =>
    intro s26 v27 v28 s29 v30 v31 h hx
    revert h
    rw [sX2_next_L152]
    refine im (go_aload_n (pc := 152) (Y := YX2_next) 0 dX2_next_152 rfl rfl) ?_
    refine im (go_iload_n (pc := 153) (Y := YX2_next) 1 dX2_next_153 rfl rfl) ?_
    refine kdg (fun k32 => ?_)
    refine bpg (fun v33 he34 => ?_)
    refine im (go_callV (pc := 154) (Y := YX2_next) (Yc := YX2_see) (y := yX2_see) (n := 1) (c0 := 2) (q := (RX2, TX2, 37)) this [iV v27] [] rfl rfl k32 (mX2_see s26 he34) YOK_X2_see rfl q1775 q133 q1774 qs69 q1772 (Nat.le_of_ble_eq_true rfl) (Nat.le_of_ble_eq_true rfl) (Nat.le_of_ble_eq_true rfl) dX2_next_154 (st2 := [iV v33]) rfl) ?_
    clear he34
    refine bpg (fun v35 he36 => ?_)
    refine im (go_callS (pc := 157) (Y := YX2_next) (Yc := YX2_isDigit) (y := yX2_isDigit) (n := 1) [iV v33] [] rfl (mX2_isDigit s26 he36) YOK_X2_isDigit rfl q1781 q133 q1780 q1779 (Nat.le_of_ble_eq_true rfl) (Nat.le_of_ble_eq_true rfl) (Nat.le_of_ble_eq_true rfl) dX2_next_157 (st2 := [iV v35]) rfl) ?_
    clear he36
    refine flp2 (go_if_eq (pc := 160) (Y := YX2_next) 197 dX2_next_160 (by decide)) ?_ ?_
    · refine e3 (fun q0 q1 q2 => ?_)
      subst q0
      subst q1
      subst q2
      exact go_sub [0, 1, 2] rfl hx
    · refine im (go_iload_n (pc := 163) (Y := YX2_next) 2 dX2_next_163 rfl rfl) ?_
      refine im (go_iconst (pc := 164) (Y := YX2_next) (v := 3) dX2_next_164 rfl) ?_
      refine bpg (fun s37 he43 h44 => ?_)
      have hj188 : Go G YX2_next s0 sE rE 188 [(0, rV (some this)), (1, iV v27), (3, iV v28)] [] s37 := by
        clear he43
        revert h44
        refine im (go_iinc (pc := 188) (Y := YX2_next) 2 (v := (v28 + 1)) (ls2 := [(3, iV (v28 + 1)), (0, rV (some this)), (1, iV v27)]) dX2_next_188 rfl rfl (Nat.le_of_ble_eq_true rfl) rfl) ?_
        refine im (go_iinc (pc := 191) (Y := YX2_next) 2 (v := (v27 + 1)) (ls2 := [(1, iV (v27 + 1)), (3, iV (v28 + 1)), (0, rV (some this))]) dX2_next_191 rfl rfl (Nat.le_of_ble_eq_true rfl) rfl) ?_
        refine im (go_goto (pc := 194) (Y := YX2_next) 152 dX2_next_194 (by decide)) ?_
        exact fun hq => go_sub [2, 0, 1] rfl (ih _ _ _ _ _ _ hq hx)
      clear h44
      revert he43
      refine flp2 (go_icmp_ge (pc := 165) (Y := YX2_next) 188 dX2_next_165 (by decide)) ?_ ?_
      · refine e1 (fun q0 => ?_)
        subst q0
        exact go_sub [0, 1, 2] rfl hj188
      · refine im (go_aload_n (pc := 168) (Y := YX2_next) 0 dX2_next_168 rfl rfl) ?_
        refine im (go_bipush (pc := 169) (Y := YX2_next) (v := 10) dX2_next_169 rfl) ?_
        refine im (go_aload_n (pc := 171) (Y := YX2_next) 0 dX2_next_171 rfl rfl) ?_
        refine flp (go_gI (pc := 172) (Y := YX2_next) fF25 (by decide) q1640 (Or.inl rfl) dX2_next_172) (fun v38 => ?_)
        refine im (go_imul (pc := 175) (Y := YX2_next) dX2_next_175) ?_
        refine im (go_aload_n (pc := 176) (Y := YX2_next) 0 dX2_next_176 rfl rfl) ?_
        refine im (go_iload_n (pc := 177) (Y := YX2_next) 1 dX2_next_177 rfl rfl) ?_
        refine kdg (fun k39 => ?_)
        refine bpg (fun v40 he41 => ?_)
        refine im (go_callV (pc := 178) (Y := YX2_next) (Yc := YX2_see) (y := yX2_see) (n := 1) (c0 := 2) (q := (RX2, TX2, 37)) this [iV v27] [iV (10 * v38), rV (some this)] rfl rfl k39 (mX2_see s26 he41) YOK_X2_see rfl q1775 q133 q1774 qs69 q1772 (Nat.le_of_ble_eq_true rfl) (Nat.le_of_ble_eq_true rfl) (Nat.le_of_ble_eq_true rfl) dX2_next_178 (st2 := [iV v40, iV (10 * v38), rV (some this)]) rfl) ?_
        clear he41
        refine im (go_iadd (pc := 181) (Y := YX2_next) dX2_next_181) ?_
        refine im (go_bipush (pc := 182) (Y := YX2_next) (v := 48) dX2_next_182 rfl) ?_
        refine im (go_isub (pc := 184) (Y := YX2_next) dX2_next_184) ?_
        refine flp (go_pI (pc := 185) (Y := YX2_next) fF25 (by decide) q1640 (Or.inl rfl) (Or.inl rfl) rfl rfl rfl dX2_next_185) (fun s42 => ?_)
        refine e1 (fun q0 => ?_)
        subst q0
        exact go_sub [0, 1, 2] rfl hj188
theorem sX2_next_L67_go {G : gG} {s0 sE : St} {rE : Option V3} (this : Nat) : ∀ (n : Nat) (s55 : St) (v56 : Int32) (s57 : St) (v58 : Int32), sX2_next_L67 this n s55 v56 = some (s57, v58) → Go G YX2_next s0 sE rE 117 [(0, rV (some this)), (1, iV v58)] [] s57 → Go G YX2_next s0 sE rE 67 [(0, rV (some this)), (1, iV v56)] [] s55 := by
  intro n
  induction n with
  | zero => intro s55 v56 s57 v58 h hx; rw [sX2_next_L67] at h; cases h
  | succ n ih =>
    intro s55 v56 s57 v58 h hx
    revert h
    rw [sX2_next_L67]
    refine im (go_aload_n (pc := 67) (Y := YX2_next) 0 dX2_next_67 rfl rfl) ?_
    refine im (go_iload_n (pc := 68) (Y := YX2_next) 1 dX2_next_68 rfl rfl) ?_
    refine kdg (fun k59 => ?_)
    refine bpg (fun v60 he61 => ?_)
    refine im (go_callV (pc := 69) (Y := YX2_next) (Yc := YX2_see) (y := yX2_see) (n := 1) (c0 := 2) (q := (RX2, TX2, 37)) this [iV v56] [] rfl rfl k59 (mX2_see s55 he61) YOK_X2_see rfl q1775 q133 q1774 qs69 q1772 (Nat.le_of_ble_eq_true rfl) (Nat.le_of_ble_eq_true rfl) (Nat.le_of_ble_eq_true rfl) dX2_next_69 (st2 := [iV v60]) rfl) ?_
    clear he61
    refine bpg (fun v62 he63 => ?_)
    refine im (go_callS (pc := 72) (Y := YX2_next) (Yc := YX2_isSmall) (y := yX2_isSmall) (n := 1) [iV v60] [] rfl (mX2_isSmall s55 he63) YOK_X2_isSmall rfl q1778 q133 q1777 q1776 (Nat.le_of_ble_eq_true rfl) (Nat.le_of_ble_eq_true rfl) (Nat.le_of_ble_eq_true rfl) dX2_next_72 (st2 := [iV v62]) rfl) ?_
    clear he63
    refine flp2 (go_if_eq (pc := 75) (Y := YX2_next) 117 dX2_next_75 (by decide)) ?_ ?_
    · refine e2 (fun q0 q1 => ?_)
      subst q0
      subst q1
      exact go_sub [0, 1] rfl hx
    · refine im (go_aload_n (pc := 78) (Y := YX2_next) 0 dX2_next_78 rfl rfl) ?_
      refine flp (go_gI (pc := 79) (Y := YX2_next) fF26 (by decide) q1641 (Or.inl rfl) dX2_next_79) (fun v64 => ?_)
      refine im (go_bipush (pc := 82) (Y := YX2_next) (v := 8) dX2_next_82 rfl) ?_
      refine bpg (fun s65 he74 h75 => ?_)
      have hj101 : Go G YX2_next s0 sE rE 101 [(0, rV (some this)), (1, iV v56)] [] s65 := by
        clear he74
        revert h75
        refine im (go_aload_n (pc := 101) (Y := YX2_next) 0 dX2_next_101 rfl rfl) ?_
        refine im (go_dup (pc := 102) (Y := YX2_next) dX2_next_102 rfl) ?_
        refine flp (go_gI (pc := 103) (Y := YX2_next) fF26 (by decide) q1641 (Or.inl rfl) dX2_next_103) (fun v66 => ?_)
        refine im (go_iconst (pc := 106) (Y := YX2_next) (v := 1) dX2_next_106 rfl) ?_
        refine im (go_iadd (pc := 107) (Y := YX2_next) dX2_next_107) ?_
        refine flp (go_pI (pc := 108) (Y := YX2_next) fF26 (by decide) q1641 (Or.inl rfl) (Or.inl rfl) rfl rfl rfl dX2_next_108) (fun s67 => ?_)
        refine im (go_iinc (pc := 111) (Y := YX2_next) 1 (v := (v56 + 1)) (ls2 := [(1, iV (v56 + 1)), (0, rV (some this))]) dX2_next_111 rfl rfl (Nat.le_of_ble_eq_true rfl) rfl) ?_
        refine im (go_goto (pc := 114) (Y := YX2_next) 67 dX2_next_114 (by decide)) ?_
        exact fun hq => go_sub [1, 0] rfl (ih _ _ _ _ hq hx)
      clear h75
      revert he74
      refine flp2 (go_icmp_ge (pc := 84) (Y := YX2_next) 101 dX2_next_84 (by decide)) ?_ ?_
      · refine e1 (fun q0 => ?_)
        subst q0
        exact go_sub [0, 1] rfl hj101
      · refine im (go_aload_n (pc := 87) (Y := YX2_next) 0 dX2_next_87 rfl rfl) ?_
        refine flp (go_gR (pc := 88) (Y := YX2_next) fF1010 (by decide) q1645 (Or.inl rfl) dX2_next_88) (fun v68 => ?_)
        refine im (go_aload_n (pc := 91) (Y := YX2_next) 0 dX2_next_91 rfl rfl) ?_
        refine flp (go_gI (pc := 92) (Y := YX2_next) fF26 (by decide) q1641 (Or.inl rfl) dX2_next_92) (fun v69 => ?_)
        refine im (go_aload_n (pc := 95) (Y := YX2_next) 0 dX2_next_95 rfl rfl) ?_
        refine im (go_iload_n (pc := 96) (Y := YX2_next) 1 dX2_next_96 rfl rfl) ?_
        refine kdg (fun k70 => ?_)
        refine bpg (fun v71 he72 => ?_)
        refine im (go_callV (pc := 97) (Y := YX2_next) (Yc := YX2_see) (y := yX2_see) (n := 1) (c0 := 2) (q := (RX2, TX2, 37)) this [iV v56] [iV v69, rV v68] rfl rfl k70 (mX2_see s55 he72) YOK_X2_see rfl q1775 q133 q1774 qs69 q1772 (Nat.le_of_ble_eq_true rfl) (Nat.le_of_ble_eq_true rfl) (Nat.le_of_ble_eq_true rfl) dX2_next_97 (st2 := [iV v71, iV v69, rV v68]) rfl) ?_
        clear he72
        refine flp (go_tI (pc := 100) (Y := YX2_next) dX2_next_100) (fun s73 => ?_)
        refine e1 (fun q0 => ?_)
        subst q0
        exact go_sub [0, 1] rfl hj101
theorem mX2_next {G : gG} (s0 : St) {this : Nat} {sE : St} (h : sX2_next s0 this = some sE) : Mt G YX2_next yX2_next [rV (some this)] s0 none sE := by
  refine go_start (ls0 := [(0, rV (some this))]) (by decide +kernel) rfl (fun h => by cases h) (Nat.le_of_ble_eq_true rfl) rfl ?_
  revert h
  unfold sX2_next
  refine im (go_aload_n (pc := 0) (Y := YX2_next) 0 dX2_next_0 rfl rfl) ?_
  refine flp (go_gI (pc := 1) (Y := YX2_next) fF23 (by decide) q1638 (Or.inl rfl) dX2_next_1) (fun v1 => ?_)
  refine im (go_istore_n (pc := 4) (Y := YX2_next) (ls2 := [(1, iV v1), (0, rV (some this))]) dX2_next_4 rfl (Nat.le_of_ble_eq_true rfl) rfl) ?_
  refine bpg (fun v8 he86 h87 => ?_)
  refine go_sub [1, 0] rfl (sX2_next_L5_go s0 this FU _ _ he86 ?_)
  clear he86
  revert h87
  refine im (go_aload_n (pc := 21) (Y := YX2_next) 0 dX2_next_21 rfl rfl) ?_
  refine im (go_iload_n (pc := 22) (Y := YX2_next) 1 dX2_next_22 rfl rfl) ?_
  refine flp (go_pI (pc := 23) (Y := YX2_next) fF22 (by decide) q1637 (Or.inl rfl) (Or.inl rfl) rfl rfl rfl dX2_next_23) (fun s9 => ?_)
  refine im (go_aload_n (pc := 26) (Y := YX2_next) 0 dX2_next_26 rfl rfl) ?_
  refine im (go_iload_n (pc := 27) (Y := YX2_next) 1 dX2_next_27 rfl rfl) ?_
  refine kdg (fun k10 => ?_)
  refine bpg (fun v11 he12 => ?_)
  refine im (go_callV (pc := 28) (Y := YX2_next) (Yc := YX2_see) (y := yX2_see) (n := 1) (c0 := 2) (q := (RX2, TX2, 37)) this [iV v8] [] rfl rfl k10 (mX2_see s9 he12) YOK_X2_see rfl q1775 q133 q1774 qs69 q1772 (Nat.le_of_ble_eq_true rfl) (Nat.le_of_ble_eq_true rfl) (Nat.le_of_ble_eq_true rfl) dX2_next_28 (st2 := [iV v11]) rfl) ?_
  clear he12
  refine im (go_istore_n (pc := 31) (Y := YX2_next) (ls2 := [(2, iV v11), (0, rV (some this)), (1, iV v8)]) dX2_next_31 rfl (Nat.le_of_ble_eq_true rfl) rfl) ?_
  refine im (go_aload_n (pc := 32) (Y := YX2_next) 1 dX2_next_32 rfl rfl) ?_
  refine im (go_iconst (pc := 33) (Y := YX2_next) (v := 0) dX2_next_33 rfl) ?_
  refine flp (go_pI (pc := 34) (Y := YX2_next) fF26 (by decide) q1641 (Or.inl rfl) (Or.inl rfl) rfl rfl rfl dX2_next_34) (fun s13 => ?_)
  refine im (go_aload_n (pc := 37) (Y := YX2_next) 1 dX2_next_37 rfl rfl) ?_
  refine im (go_iconst (pc := 38) (Y := YX2_next) (v := 0) dX2_next_38 rfl) ?_
  refine flp (go_pI (pc := 39) (Y := YX2_next) fF25 (by decide) q1640 (Or.inl rfl) (Or.inl rfl) rfl rfl rfl dX2_next_39) (fun s14 => ?_)
  refine im (go_iload_n (pc := 42) (Y := YX2_next) 0 dX2_next_42 rfl rfl) ?_
  refine im (go_iconst (pc := 43) (Y := YX2_next) (v := -1) dX2_next_43 rfl) ?_
  refine flp2 (go_icmp_ne (pc := 44) (Y := YX2_next) 60 dX2_next_44 (by decide)) ?_ ?_
  · refine im (go_aload_n (pc := 47) (Y := YX2_next) 1 dX2_next_47 rfl rfl) ?_
    refine im (go_iconst (pc := 48) (Y := YX2_next) (v := 0) dX2_next_48 rfl) ?_
    refine flp (go_pI (pc := 49) (Y := YX2_next) fF24 (by decide) q1639 (Or.inl rfl) (Or.inl rfl) rfl rfl rfl dX2_next_49) (fun s15 => ?_)
    refine im (go_aload_n (pc := 52) (Y := YX2_next) 1 dX2_next_52 rfl rfl) ?_
    refine im (go_iload_n (pc := 53) (Y := YX2_next) 2 dX2_next_53 rfl rfl) ?_
    refine flp (go_pI (pc := 54) (Y := YX2_next) fF23 (by decide) q1638 (Or.inl rfl) (Or.inl rfl) rfl rfl rfl dX2_next_54) (fun s16 => ?_)
    refine im (go_goto (pc := 57) (Y := YX2_next) 241 dX2_next_57 (by decide)) ?_
    refine e1 (fun q0 => ?_)
    subst q0
    exact go_vret (pc := 241) (Y := YX2_next) rfl dX2_next_241
  · refine im (go_iload_n (pc := 60) (Y := YX2_next) 0 dX2_next_60 rfl rfl) ?_
    refine bpg (fun v17 he18 => ?_)
    refine im (go_callS (pc := 61) (Y := YX2_next) (Yc := YX2_isSmall) (y := yX2_isSmall) (n := 1) [iV v11] [] rfl (mX2_isSmall s14 he18) YOK_X2_isSmall rfl q1778 q133 q1777 q1776 (Nat.le_of_ble_eq_true rfl) (Nat.le_of_ble_eq_true rfl) (Nat.le_of_ble_eq_true rfl) dX2_next_61 (st2 := [iV v17]) rfl) ?_
    clear he18
    refine flp2 (go_if_eq (pc := 64) (Y := YX2_next) 143 dX2_next_64 (by decide)) ?_ ?_
    · refine im (go_iload_n (pc := 143) (Y := YX2_next) 0 dX2_next_143 rfl rfl) ?_
      refine bpg (fun v19 he20 => ?_)
      refine im (go_callS (pc := 144) (Y := YX2_next) (Yc := YX2_isDigit) (y := yX2_isDigit) (n := 1) [iV v11] [] rfl (mX2_isDigit s14 he20) YOK_X2_isDigit rfl q1781 q133 q1780 q1779 (Nat.le_of_ble_eq_true rfl) (Nat.le_of_ble_eq_true rfl) (Nat.le_of_ble_eq_true rfl) dX2_next_144 (st2 := [iV v19]) rfl) ?_
      clear he20
      refine flp2 (go_if_eq (pc := 147) (Y := YX2_next) 219 dX2_next_147 (by decide)) ?_ ?_
      · refine im (go_aload_n (pc := 219) (Y := YX2_next) 1 dX2_next_219 rfl rfl) ?_
        refine im (go_iload_n (pc := 220) (Y := YX2_next) 2 dX2_next_220 rfl rfl) ?_
        refine im (go_iconst (pc := 221) (Y := YX2_next) (v := 1) dX2_next_221 rfl) ?_
        refine im (go_iadd (pc := 222) (Y := YX2_next) dX2_next_222) ?_
        refine flp (go_pI (pc := 223) (Y := YX2_next) fF23 (by decide) q1638 (Or.inl rfl) (Or.inl rfl) rfl rfl rfl dX2_next_223) (fun s21 => ?_)
        refine im (go_aload_n (pc := 226) (Y := YX2_next) 1 dX2_next_226 rfl rfl) ?_
        refine im (go_iload_n (pc := 227) (Y := YX2_next) 0 dX2_next_227 rfl rfl) ?_
        refine im (go_bipush (pc := 228) (Y := YX2_next) (v := 59) dX2_next_228 rfl) ?_
        refine bpg (fun v22 he24 h25 => ?_)
        have hj238 : Go G YX2_next s0 sE none 238 [] [iV v22, rV (some this)] s21 := by
          clear he24
          revert h25
          refine flp (go_pI (pc := 238) (Y := YX2_next) fF24 (by decide) q1639 (Or.inl rfl) (Or.inl rfl) rfl rfl rfl dX2_next_238) (fun s23 => ?_)
          refine e1 (fun q0 => ?_)
          subst q0
          exact go_vret (pc := 241) (Y := YX2_next) rfl dX2_next_241
        clear h25
        revert he24
        refine flp2 (go_icmp_ne (pc := 230) (Y := YX2_next) 237 dX2_next_230 (by decide)) ?_ ?_
        · refine im (go_iload_n (pc := 233) (Y := YX2_next) 0 dX2_next_233 rfl rfl) ?_
          refine im (go_goto (pc := 234) (Y := YX2_next) 238 dX2_next_234 (by decide)) ?_
          refine e1 (fun q0 => ?_)
          subst q0
          exact go_sub [] rfl hj238
        · refine im (go_iconst (pc := 237) (Y := YX2_next) (v := 1) dX2_next_237 rfl) ?_
          refine e1 (fun q0 => ?_)
          subst q0
          exact go_sub [] rfl hj238
      · refine im (go_iconst (pc := 150) (Y := YX2_next) (v := 0) dX2_next_150 rfl) ?_
        refine im (go_istore_n (pc := 151) (Y := YX2_next) (ls2 := [(3, iV 0), (2, iV v11), (0, rV (some this)), (1, iV v8)]) dX2_next_151 rfl (Nat.le_of_ble_eq_true rfl) rfl) ?_
        refine b3g (fun s45 v46 v47 he53 h54 => ?_)
        refine go_sub [2, 3, 0] rfl (sX2_next_L152_go this FU _ _ _ _ _ _ he53 ?_)
        clear he53
        revert h54
        refine im (go_aload_n (pc := 197) (Y := YX2_next) 0 dX2_next_197 rfl rfl) ?_
        refine im (go_iload_n (pc := 198) (Y := YX2_next) 1 dX2_next_198 rfl rfl) ?_
        refine flp (go_pI (pc := 199) (Y := YX2_next) fF23 (by decide) q1638 (Or.inl rfl) (Or.inl rfl) rfl rfl rfl dX2_next_199) (fun s48 => ?_)
        refine im (go_aload_n (pc := 202) (Y := YX2_next) 0 dX2_next_202 rfl rfl) ?_
        refine im (go_iload_n (pc := 203) (Y := YX2_next) 2 dX2_next_203 rfl rfl) ?_
        refine im (go_iconst (pc := 204) (Y := YX2_next) (v := 3) dX2_next_204 rfl) ?_
        refine bpg (fun v49 he51 h52 => ?_)
        have hj213 : Go G YX2_next s0 sE none 213 [] [iV v49, rV (some this)] s48 := by
          clear he51
          revert h52
          refine flp (go_pI (pc := 213) (Y := YX2_next) fF24 (by decide) q1639 (Or.inl rfl) (Or.inl rfl) rfl rfl rfl dX2_next_213) (fun s50 => ?_)
          refine im (go_goto (pc := 216) (Y := YX2_next) 241 dX2_next_216 (by decide)) ?_
          refine e1 (fun q0 => ?_)
          subst q0
          exact go_vret (pc := 241) (Y := YX2_next) rfl dX2_next_241
        clear h52
        revert he51
        refine flp2 (go_icmp_le (pc := 205) (Y := YX2_next) 212 dX2_next_205 (by decide)) ?_ ?_
        · refine im (go_iconst (pc := 212) (Y := YX2_next) (v := 3) dX2_next_212 rfl) ?_
          refine e1 (fun q0 => ?_)
          subst q0
          exact go_sub [] rfl hj213
        · refine im (go_iconst (pc := 208) (Y := YX2_next) (v := 1) dX2_next_208 rfl) ?_
          refine im (go_goto (pc := 209) (Y := YX2_next) 213 dX2_next_209 (by decide)) ?_
          refine e1 (fun q0 => ?_)
          subst q0
          exact go_sub [] rfl hj213
    · refine b2g (fun s76 v77 he84 h85 => ?_)
      refine go_sub [1, 2] rfl (sX2_next_L67_go this FU _ _ _ _ he84 ?_)
      clear he84
      revert h85
      refine im (go_aload_n (pc := 117) (Y := YX2_next) 0 dX2_next_117 rfl rfl) ?_
      refine im (go_iload_n (pc := 118) (Y := YX2_next) 1 dX2_next_118 rfl rfl) ?_
      refine flp (go_pI (pc := 119) (Y := YX2_next) fF23 (by decide) q1638 (Or.inl rfl) (Or.inl rfl) rfl rfl rfl dX2_next_119) (fun s78 => ?_)
      refine im (go_aload_n (pc := 122) (Y := YX2_next) 0 dX2_next_122 rfl rfl) ?_
      refine im (go_aload_n (pc := 123) (Y := YX2_next) 0 dX2_next_123 rfl rfl) ?_
      refine flp (go_gI (pc := 124) (Y := YX2_next) fF26 (by decide) q1641 (Or.inl rfl) dX2_next_124) (fun v79 => ?_)
      refine im (go_bipush (pc := 127) (Y := YX2_next) (v := 8) dX2_next_127 rfl) ?_
      refine bpg (fun v80 he82 h83 => ?_)
      have hj137 : Go G YX2_next s0 sE none 137 [] [iV v80, rV (some this)] s78 := by
        clear he82
        revert h83
        refine flp (go_pI (pc := 137) (Y := YX2_next) fF24 (by decide) q1639 (Or.inl rfl) (Or.inl rfl) rfl rfl rfl dX2_next_137) (fun s81 => ?_)
        refine im (go_goto (pc := 140) (Y := YX2_next) 241 dX2_next_140 (by decide)) ?_
        refine e1 (fun q0 => ?_)
        subst q0
        exact go_vret (pc := 241) (Y := YX2_next) rfl dX2_next_241
      clear h83
      revert he82
      refine flp2 (go_icmp_le (pc := 129) (Y := YX2_next) 136 dX2_next_129 (by decide)) ?_ ?_
      · refine im (go_iconst (pc := 136) (Y := YX2_next) (v := 2) dX2_next_136 rfl) ?_
        refine e1 (fun q0 => ?_)
        subst q0
        exact go_sub [] rfl hj137
      · refine im (go_iconst (pc := 132) (Y := YX2_next) (v := 1) dX2_next_132 rfl) ?_
        refine im (go_goto (pc := 133) (Y := YX2_next) 137 dX2_next_133 (by decide)) ?_
        refine e1 (fun q0 => ?_)
        subst q0
        exact go_sub [] rfl hj137
abbrev YX2_isWord : mY := (RX2, cX2_isWord, 4, (Option.some .boolean), 4, 85, false)
theorem YOK_X2_isWord : YOK yX2_isWord 1 := ⟨⟨by decide +kernel, by decide +kernel⟩, by decide +kernel⟩
theorem sX2_isWord_L32_go {G : gG} {s0 sE : St} {rE : Option V3} (s9 : St) (this : Nat) (i1 : Option Nat) : ∀ (n : Nat) (v10 : Int32) (v11 : Int32) (v12 : Int32), sX2_isWord_L32 s9 this i1 n v10 v11 = some v12 → Go G YX2_isWord s0 sE rE 70 [(2, iV v12)] [] s9 → Go G YX2_isWord s0 sE rE 32 [(0, rV (some this)), (1, rV i1), (2, iV v10), (3, iV v11)] [] s9 := by
  intro n
  induction n with
  | zero => intro v10 v11 v12 h hx; rw [sX2_isWord_L32] at h; cases h
  | succ n ih =>
    intro v10 v11 v12 h hx
    revert h
    rw [sX2_isWord_L32]
    refine im (go_iload_n (pc := 32) (Y := YX2_isWord) 3 dX2_isWord_32 rfl rfl) ?_
    refine im (go_aload_n (pc := 33) (Y := YX2_isWord) 0 dX2_isWord_33 rfl rfl) ?_
    refine flp (go_gI (pc := 34) (Y := YX2_isWord) fF26 (by decide) q1641 (Or.inl rfl) dX2_isWord_34) (fun v13 => ?_)
    refine flp2 (go_icmp_ge (pc := 37) (Y := YX2_isWord) 70 dX2_isWord_37 (by decide)) ?_ ?_
    · refine e1 (fun q0 => ?_)
      subst q0
      exact go_sub [2] rfl hx
    · refine im (go_iload_n (pc := 40) (Y := YX2_isWord) 2 dX2_isWord_40 rfl rfl) ?_
      refine bpg (fun v14 he22 h23 => ?_)
      have hj63 : Go G YX2_isWord s0 sE rE 63 [(0, rV (some this)), (1, rV i1), (3, iV v11)] [iV v14] s9 := by
        clear he22
        revert h23
        refine im (go_istore_n (pc := 63) (Y := YX2_isWord) (ls2 := [(2, iV v14), (0, rV (some this)), (1, rV i1), (3, iV v11)]) dX2_isWord_63 rfl (Nat.le_of_ble_eq_true rfl) rfl) ?_
        refine im (go_iinc (pc := 64) (Y := YX2_isWord) 3 (v := (v11 + 1)) (ls2 := [(3, iV (v11 + 1)), (2, iV v14), (0, rV (some this)), (1, rV i1)]) dX2_isWord_64 rfl rfl (Nat.le_of_ble_eq_true rfl) rfl) ?_
        refine im (go_goto (pc := 67) (Y := YX2_isWord) 32 dX2_isWord_67 (by decide)) ?_
        exact fun hq => go_sub [2, 3, 1, 0] rfl (ih _ _ _ hq hx)
      clear h23
      revert he22
      refine flp2 (go_if_eq (pc := 41) (Y := YX2_isWord) 62 dX2_isWord_41 (by decide)) ?_ ?_
      · refine im (go_iconst (pc := 62) (Y := YX2_isWord) (v := 0) dX2_isWord_62 rfl) ?_
        refine e1 (fun q0 => ?_)
        subst q0
        exact go_sub [0, 1, 3] rfl hj63
      · refine im (go_aload_n (pc := 44) (Y := YX2_isWord) 0 dX2_isWord_44 rfl rfl) ?_
        refine flp (go_gR (pc := 45) (Y := YX2_isWord) fF1010 (by decide) q1645 (Or.inl rfl) dX2_isWord_45) (fun v15 => ?_)
        refine im (go_iload_n (pc := 48) (Y := YX2_isWord) 3 dX2_isWord_48 rfl rfl) ?_
        refine flp (go_lI1 (pc := 49) (Y := YX2_isWord) dX2_isWord_49) (fun v16 => ?_)
        refine im (go_aload_n (pc := 50) (Y := YX2_isWord) 1 dX2_isWord_50 rfl rfl) ?_
        refine im (go_iload_n (pc := 51) (Y := YX2_isWord) 3 dX2_isWord_51 rfl rfl) ?_
        refine ivg (fun w17 r18 k19 => ?_)
        refine bpg (fun v20 he21 => ?_)
        refine im (go_callV (pc := 52) (Y := YX2_isWord) (Yc := YJ5_charAt) (y := yJ5_charAt) (n := 1) (c0 := 8) (q := (RJ5, TJ5, 4)) w17 [iV v11] [iV v16] (by rw [r18]; rfl) rfl k19 (mJ5_charAt s9 he21) YOK_J5_charAt rfl q1802 q140 q1800 q1801 q1799 (Nat.le_of_ble_eq_true rfl) (Nat.le_of_ble_eq_true rfl) (Nat.le_of_ble_eq_true rfl) dX2_isWord_52 (st2 := [iV v20, iV v16]) rfl) ?_
        clear he21
        refine flp2 (go_icmp_ne (pc := 55) (Y := YX2_isWord) 62 dX2_isWord_55 (by decide)) ?_ ?_
        · refine im (go_iconst (pc := 58) (Y := YX2_isWord) (v := 1) dX2_isWord_58 rfl) ?_
          refine im (go_goto (pc := 59) (Y := YX2_isWord) 63 dX2_isWord_59 (by decide)) ?_
          refine e1 (fun q0 => ?_)
          subst q0
          exact go_sub [0, 1, 3] rfl hj63
        · refine im (go_iconst (pc := 62) (Y := YX2_isWord) (v := 0) dX2_isWord_62 rfl) ?_
          refine e1 (fun q0 => ?_)
          subst q0
          exact go_sub [0, 1, 3] rfl hj63
theorem mX2_isWord {G : gG} (s0 : St) {this : Nat} {p0 : Option Nat} {vE : Int32} (h : sX2_isWord s0 this p0 = some vE) : Mt G YX2_isWord yX2_isWord [rV (some this), rV p0] s0 (some (iV vE)) s0 := by
  refine go_start (ls0 := [(0, rV (some this)), (1, rV p0)]) (by decide +kernel) rfl (fun h => by cases h) (Nat.le_of_ble_eq_true rfl) rfl ?_
  revert h
  unfold sX2_isWord
  refine im (go_aload_n (pc := 0) (Y := YX2_isWord) 0 dX2_isWord_0 rfl rfl) ?_
  refine flp (go_gI (pc := 1) (Y := YX2_isWord) fF30 (by decide) q1646 (Or.inl rfl) dX2_isWord_1) (fun v1 => ?_)
  refine flp2 (go_if_ne (pc := 4) (Y := YX2_isWord) 26 dX2_isWord_4 (by decide)) ?_ ?_
  · refine im (go_aload_n (pc := 7) (Y := YX2_isWord) 0 dX2_isWord_7 rfl rfl) ?_
    refine flp (go_gI (pc := 8) (Y := YX2_isWord) fF24 (by decide) q1639 (Or.inl rfl) dX2_isWord_8) (fun v2 => ?_)
    refine im (go_iconst (pc := 11) (Y := YX2_isWord) (v := 2) dX2_isWord_11 rfl) ?_
    refine flp2 (go_icmp_ne (pc := 12) (Y := YX2_isWord) 26 dX2_isWord_12 (by decide)) ?_ ?_
    · refine im (go_aload_n (pc := 15) (Y := YX2_isWord) 0 dX2_isWord_15 rfl rfl) ?_
      refine flp (go_gI (pc := 16) (Y := YX2_isWord) fF26 (by decide) q1641 (Or.inl rfl) dX2_isWord_16) (fun v3 => ?_)
      refine im (go_aload_n (pc := 19) (Y := YX2_isWord) 1 dX2_isWord_19 rfl rfl) ?_
      refine ivg (fun w4 r5 k6 => ?_)
      refine bpg (fun v7 he8 => ?_)
      refine im (go_callV (pc := 20) (Y := YX2_isWord) (Yc := YJ5_length) (y := yJ5_length) (n := 0) (c0 := 8) (q := (RJ5, TJ5, 4)) w4 [] [iV v3] (by rw [r5]; rfl) rfl k6 (mJ5_length s0 he8) YOK_J5_length rfl q1794 q140 q1792 q1793 q1791 (Nat.le_of_ble_eq_true rfl) (Nat.le_of_ble_eq_true rfl) (Nat.le_of_ble_eq_true rfl) dX2_isWord_20 (st2 := [iV v7, iV v3]) rfl) ?_
      clear he8
      refine flp2 (go_icmp_eq (pc := 23) (Y := YX2_isWord) 28 dX2_isWord_23 (by decide)) ?_ ?_
      · refine im (go_iconst (pc := 28) (Y := YX2_isWord) (v := 1) dX2_isWord_28 rfl) ?_
        refine im (go_istore_n (pc := 29) (Y := YX2_isWord) (ls2 := [(2, iV 1), (0, rV (some this)), (1, rV p0)]) dX2_isWord_29 rfl (Nat.le_of_ble_eq_true rfl) rfl) ?_
        refine im (go_iconst (pc := 30) (Y := YX2_isWord) (v := 0) dX2_isWord_30 rfl) ?_
        refine im (go_istore_n (pc := 31) (Y := YX2_isWord) (ls2 := [(3, iV 0), (2, iV 1), (0, rV (some this)), (1, rV p0)]) dX2_isWord_31 rfl (Nat.le_of_ble_eq_true rfl) rfl) ?_
        refine bpg (fun v24 he26 h27 => ?_)
        refine go_sub [2, 3, 1, 0] rfl (sX2_isWord_L32_go s0 this p0 FU _ _ _ he26 ?_)
        clear he26
        revert h27
        refine im (go_iload_n (pc := 70) (Y := YX2_isWord) 0 dX2_isWord_70 rfl rfl) ?_
        refine okg (fun z25 => ?_)
        refine e1 (fun q0 => ?_)
        subst q0
        exact go_zret (pc := 71) (Y := YX2_isWord) rfl (okZ_nar z25).1 dX2_isWord_71
      · refine im (go_iconst (pc := 26) (Y := YX2_isWord) (v := 0) dX2_isWord_26 rfl) ?_
        refine e1 (fun q0 => ?_)
        subst q0
        exact go_zret (pc := 27) (Y := YX2_isWord) rfl rfl dX2_isWord_27
    · refine im (go_iconst (pc := 26) (Y := YX2_isWord) (v := 0) dX2_isWord_26 rfl) ?_
      refine e1 (fun q0 => ?_)
      subst q0
      exact go_zret (pc := 27) (Y := YX2_isWord) rfl rfl dX2_isWord_27
  · refine im (go_iconst (pc := 26) (Y := YX2_isWord) (v := 0) dX2_isWord_26 rfl) ?_
    refine e1 (fun q0 => ?_)
    subst q0
    exact go_zret (pc := 27) (Y := YX2_isWord) rfl rfl dX2_isWord_27
abbrev YX2_wrong : mY := (RX2, cX2_wrong, 3, (Option.none : Option Jvm.ClassFile.FieldType), 0, 0, false)
theorem YOK_X2_wrong : YOK yX2_wrong 2 := ⟨⟨by decide +kernel, by decide +kernel⟩, by decide +kernel⟩
theorem mX2_wrong {G : gG} (s0 : St) {this : Nat} {p0 : Int32} {p1 : Int32} {sE : St} (h : sX2_wrong s0 this p0 p1 = some sE) : Mt G YX2_wrong yX2_wrong [rV (some this), iV p0, iV p1] s0 none sE := by
  refine go_start (ls0 := [(0, rV (some this)), (1, iV p0), (2, iV p1)]) (by decide +kernel) rfl (fun h => by cases h) (Nat.le_of_ble_eq_true rfl) rfl ?_
  revert h
  unfold sX2_wrong
  refine im (go_aload_n (pc := 0) (Y := YX2_wrong) 0 dX2_wrong_0 rfl rfl) ?_
  refine flp (go_gI (pc := 1) (Y := YX2_wrong) fF30 (by decide) q1646 (Or.inl rfl) dX2_wrong_1) (fun v1 => ?_)
  refine flp2 (go_if_eq (pc := 4) (Y := YX2_wrong) 8 dX2_wrong_4 (by decide)) ?_ ?_
  · refine im (go_aload_n (pc := 8) (Y := YX2_wrong) 0 dX2_wrong_8 rfl rfl) ?_
    refine im (go_iconst (pc := 9) (Y := YX2_wrong) (v := 1) dX2_wrong_9 rfl) ?_
    refine flp (go_pI (pc := 10) (Y := YX2_wrong) fF30 (by decide) q1646 (Or.inl rfl) (Or.inl rfl) rfl rfl rfl dX2_wrong_10) (fun s2 => ?_)
    refine im (go_aload_n (pc := 13) (Y := YX2_wrong) 0 dX2_wrong_13 rfl rfl) ?_
    refine im (go_iload_n (pc := 14) (Y := YX2_wrong) 1 dX2_wrong_14 rfl rfl) ?_
    refine flp (go_pI (pc := 15) (Y := YX2_wrong) fF27 (by decide) q1642 (Or.inl rfl) (Or.inl rfl) rfl rfl rfl dX2_wrong_15) (fun s3 => ?_)
    refine im (go_aload_n (pc := 18) (Y := YX2_wrong) 0 dX2_wrong_18 rfl rfl) ?_
    refine im (go_iload_n (pc := 19) (Y := YX2_wrong) 2 dX2_wrong_19 rfl rfl) ?_
    refine flp (go_pI (pc := 20) (Y := YX2_wrong) fF28 (by decide) q1643 (Or.inl rfl) (Or.inl rfl) rfl rfl rfl dX2_wrong_20) (fun s4 => ?_)
    refine e1 (fun q0 => ?_)
    subst q0
    exact go_vret (pc := 23) (Y := YX2_wrong) rfl dX2_wrong_23
  · refine e1 (fun q0 => ?_)
    subst q0
    exact go_vret (pc := 7) (Y := YX2_wrong) rfl dX2_wrong_7
abbrev YX2_takesWord : mY := (RX2, cX2_takesWord, 2, (Option.some .boolean), 5, 108, false)
theorem YOK_X2_takesWord : YOK yX2_takesWord 1 := ⟨⟨by decide +kernel, by decide +kernel⟩, by decide +kernel⟩
theorem mX2_takesWord {G : gG} (s0 : St) {this : Nat} {p0 : Option Nat} {sE : St} {vE : Int32} (h : sX2_takesWord s0 this p0 = some (sE, vE)) : Mt G YX2_takesWord yX2_takesWord [rV (some this), rV p0] s0 (some (iV vE)) sE := by
  refine go_start (ls0 := [(0, rV (some this)), (1, rV p0)]) (by decide +kernel) rfl (fun h => by cases h) (Nat.le_of_ble_eq_true rfl) rfl ?_
  revert h
  unfold sX2_takesWord
  refine im (go_aload_n (pc := 0) (Y := YX2_takesWord) 0 dX2_takesWord_0 rfl rfl) ?_
  refine im (go_aload_n (pc := 1) (Y := YX2_takesWord) 1 dX2_takesWord_1 rfl rfl) ?_
  refine kdg (fun k1 => ?_)
  refine bpg (fun v2 he3 => ?_)
  refine im (go_callV (pc := 2) (Y := YX2_takesWord) (Yc := YX2_isWord) (y := yX2_isWord) (n := 1) (c0 := 2) (q := (RX2, TX2, 37)) this [rV p0] [] rfl rfl k1 (mX2_isWord s0 he3) YOK_X2_isWord rfl q1790 q133 q1789 qs71 q1787 (Nat.le_of_ble_eq_true rfl) (Nat.le_of_ble_eq_true rfl) (Nat.le_of_ble_eq_true rfl) dX2_takesWord_2 (st2 := [iV v2]) rfl) ?_
  clear he3
  refine flp2 (go_if_ne (pc := 5) (Y := YX2_takesWord) 10 dX2_takesWord_5 (by decide)) ?_ ?_
  · refine im (go_iconst (pc := 8) (Y := YX2_takesWord) (v := 0) dX2_takesWord_8 rfl) ?_
    refine e2 (fun q0 q1 => ?_)
    subst q0
    subst q1
    exact go_zret (pc := 9) (Y := YX2_takesWord) rfl rfl dX2_takesWord_9
  · refine im (go_aload_n (pc := 10) (Y := YX2_takesWord) 0 dX2_takesWord_10 rfl rfl) ?_
    refine kdg (fun k4 => ?_)
    refine bpg (fun s5 he6 => ?_)
    refine im (go_callV (pc := 11) (Y := YX2_takesWord) (Yc := YX2_next) (y := yX2_next) (n := 0) (c0 := 2) (q := (RX2, TX2, 37)) this [] [] rfl rfl k4 (mX2_next s0 he6) YOK_X2_next rfl q1771 q133 q1770 qs68 q1768 (Nat.le_of_ble_eq_true rfl) (Nat.le_of_ble_eq_true rfl) (Nat.le_of_ble_eq_true rfl) dX2_takesWord_11 (st2 := []) rfl) ?_
    clear he6
    refine im (go_iconst (pc := 14) (Y := YX2_takesWord) (v := 1) dX2_takesWord_14 rfl) ?_
    refine e2 (fun q0 q1 => ?_)
    subst q0
    subst q1
    exact go_zret (pc := 15) (Y := YX2_takesWord) rfl rfl dX2_takesWord_15
abbrev YX2_must : mY := (RX2, cX2_must, 2, (Option.none : Option Jvm.ClassFile.FieldType), 6, 129, false)
theorem YOK_X2_must : YOK yX2_must 1 := ⟨⟨by decide +kernel, by decide +kernel⟩, by decide +kernel⟩
theorem mX2_must {G : gG} (s0 : St) {this : Nat} {p0 : Option Nat} {sE : St} (h : sX2_must s0 this p0 = some sE) : Mt G YX2_must yX2_must [rV (some this), rV p0] s0 none sE := by
  refine go_start (ls0 := [(0, rV (some this)), (1, rV p0)]) (by decide +kernel) rfl (fun h => by cases h) (Nat.le_of_ble_eq_true rfl) rfl ?_
  revert h
  unfold sX2_must
  refine im (go_aload_n (pc := 0) (Y := YX2_must) 0 dX2_must_0 rfl rfl) ?_
  refine flp (go_gI (pc := 1) (Y := YX2_must) fF30 (by decide) q1646 (Or.inl rfl) dX2_must_1) (fun v1 => ?_)
  refine flp2 (go_if_ne (pc := 4) (Y := YX2_must) 24 dX2_must_4 (by decide)) ?_ ?_
  · refine im (go_aload_n (pc := 7) (Y := YX2_must) 0 dX2_must_7 rfl rfl) ?_
    refine im (go_aload_n (pc := 8) (Y := YX2_must) 1 dX2_must_8 rfl rfl) ?_
    refine kdg (fun k2 => ?_)
    refine bdg (fun s3 v4 he5 => ?_)
    refine im (go_callV (pc := 9) (Y := YX2_must) (Yc := YX2_takesWord) (y := yX2_takesWord) (n := 1) (c0 := 2) (q := (RX2, TX2, 37)) this [rV p0] [] rfl rfl k2 (mX2_takesWord s0 he5) YOK_X2_takesWord rfl q1830 q133 q1829 qs76 q1827 (Nat.le_of_ble_eq_true rfl) (Nat.le_of_ble_eq_true rfl) (Nat.le_of_ble_eq_true rfl) dX2_must_9 (st2 := [iV v4]) rfl) ?_
    clear he5
    refine flp2 (go_if_ne (pc := 12) (Y := YX2_must) 24 dX2_must_12 (by decide)) ?_ ?_
    · refine im (go_aload_n (pc := 15) (Y := YX2_must) 0 dX2_must_15 rfl rfl) ?_
      refine im (go_iconst (pc := 16) (Y := YX2_must) (v := 1) dX2_must_16 rfl) ?_
      refine im (go_aload_n (pc := 17) (Y := YX2_must) 0 dX2_must_17 rfl rfl) ?_
      refine flp (go_gI (pc := 18) (Y := YX2_must) fF22 (by decide) q1637 (Or.inl rfl) dX2_must_18) (fun v6 => ?_)
      refine kdg (fun k7 => ?_)
      refine bpg (fun s8 he9 => ?_)
      refine im (go_callV (pc := 21) (Y := YX2_must) (Yc := YX2_wrong) (y := yX2_wrong) (n := 2) (c0 := 2) (q := (RX2, TX2, 37)) this [iV 1, iV v6] [] rfl rfl k7 (mX2_wrong s3 he9) YOK_X2_wrong rfl q1817 q133 q1816 qs73 q1814 (Nat.le_of_ble_eq_true rfl) (Nat.le_of_ble_eq_true rfl) (Nat.le_of_ble_eq_true rfl) dX2_must_21 (st2 := []) rfl) ?_
      clear he9
      refine e1 (fun q0 => ?_)
      subst q0
      exact go_vret (pc := 24) (Y := YX2_must) rfl dX2_must_24
    · refine e1 (fun q0 => ?_)
      subst q0
      exact go_vret (pc := 24) (Y := YX2_must) rfl dX2_must_24
  · refine e1 (fun q0 => ?_)
    subst q0
    exact go_vret (pc := 24) (Y := YX2_must) rfl dX2_must_24
abbrev YX2_numberHere : mY := (RX2, cX2_numberHere, 3, (Option.some .int), 1, 22, false)
theorem YOK_X2_numberHere : YOK yX2_numberHere 2 := ⟨⟨by decide +kernel, by decide +kernel⟩, by decide +kernel⟩
theorem mX2_numberHere {G : gG} (s0 : St) {this : Nat} {p0 : Int32} {p1 : Int32} {sE : St} {vE : Int32} (h : sX2_numberHere s0 this p0 p1 = some (sE, vE)) : Mt G YX2_numberHere yX2_numberHere [rV (some this), iV p0, iV p1] s0 (some (iV vE)) sE := by
  refine go_start (ls0 := [(0, rV (some this)), (1, iV p0), (2, iV p1)]) (by decide +kernel) rfl (fun h => by cases h) (Nat.le_of_ble_eq_true rfl) rfl ?_
  revert h
  unfold sX2_numberHere
  refine im (go_aload_n (pc := 0) (Y := YX2_numberHere) 0 dX2_numberHere_0 rfl rfl) ?_
  refine flp (go_gI (pc := 1) (Y := YX2_numberHere) fF30 (by decide) q1646 (Or.inl rfl) dX2_numberHere_1) (fun v1 => ?_)
  refine flp2 (go_if_eq (pc := 4) (Y := YX2_numberHere) 9 dX2_numberHere_4 (by decide)) ?_ ?_
  · refine im (go_aload_n (pc := 9) (Y := YX2_numberHere) 0 dX2_numberHere_9 rfl rfl) ?_
    refine flp (go_gI (pc := 10) (Y := YX2_numberHere) fF24 (by decide) q1639 (Or.inl rfl) dX2_numberHere_10) (fun v2 => ?_)
    refine im (go_iconst (pc := 13) (Y := YX2_numberHere) (v := 3) dX2_numberHere_13 rfl) ?_
    refine bpg (fun s3 he17 h18 => ?_)
    have hj50 : Go G YX2_numberHere s0 sE (some (iV vE)) 50 [(0, rV (some this)), (1, iV p0)] [] s3 := by
      clear he17
      revert h18
      refine im (go_aload_n (pc := 50) (Y := YX2_numberHere) 0 dX2_numberHere_50 rfl rfl) ?_
      refine flp (go_gI (pc := 51) (Y := YX2_numberHere) fF30 (by decide) q1646 (Or.inl rfl) dX2_numberHere_51) (fun v4 => ?_)
      refine flp2 (go_if_eq (pc := 54) (Y := YX2_numberHere) 61 dX2_numberHere_54 (by decide)) ?_ ?_
      · refine im (go_aload_n (pc := 61) (Y := YX2_numberHere) 0 dX2_numberHere_61 rfl rfl) ?_
        refine flp (go_gI (pc := 62) (Y := YX2_numberHere) fF25 (by decide) q1640 (Or.inl rfl) dX2_numberHere_62) (fun v5 => ?_)
        refine e2 (fun q0 q1 => ?_)
        subst q0
        subst q1
        exact go_iret (pc := 65) (Y := YX2_numberHere) rfl dX2_numberHere_65
      · refine im (go_iload_n (pc := 57) (Y := YX2_numberHere) 1 dX2_numberHere_57 rfl rfl) ?_
        refine im (go_goto (pc := 58) (Y := YX2_numberHere) 65 dX2_numberHere_58 (by decide)) ?_
        refine e2 (fun q0 q1 => ?_)
        subst q0
        subst q1
        exact go_iret (pc := 65) (Y := YX2_numberHere) rfl dX2_numberHere_65
    clear h18
    revert he17
    refine flp2 (go_icmp_eq (pc := 14) (Y := YX2_numberHere) 29 dX2_numberHere_14 (by decide)) ?_ ?_
    · refine im (go_aload_n (pc := 29) (Y := YX2_numberHere) 0 dX2_numberHere_29 rfl rfl) ?_
      refine flp (go_gI (pc := 30) (Y := YX2_numberHere) fF25 (by decide) q1640 (Or.inl rfl) dX2_numberHere_30) (fun v6 => ?_)
      refine im (go_iload_n (pc := 33) (Y := YX2_numberHere) 1 dX2_numberHere_33 rfl rfl) ?_
      refine im (go_iload_n (pc := 34) (Y := YX2_numberHere) 2 dX2_numberHere_34 rfl rfl) ?_
      refine bpg (fun v7 he8 => ?_)
      refine im (go_callS (pc := 35) (Y := YX2_numberHere) (Yc := YX2_in) (y := yX2_in) (n := 3) [iV v6, iV p0, iV p1] [] rfl (mX2_in s0 he8) YOK_X2_in rfl q1763 q133 q1762 q1761 (Nat.le_of_ble_eq_true rfl) (Nat.le_of_ble_eq_true rfl) (Nat.le_of_ble_eq_true rfl) dX2_numberHere_35 (st2 := [iV v7]) rfl) ?_
      clear he8
      refine flp2 (go_if_ne (pc := 38) (Y := YX2_numberHere) 50 dX2_numberHere_38 (by decide)) ?_ ?_
      · refine im (go_aload_n (pc := 41) (Y := YX2_numberHere) 0 dX2_numberHere_41 rfl rfl) ?_
        refine im (go_iconst (pc := 42) (Y := YX2_numberHere) (v := 4) dX2_numberHere_42 rfl) ?_
        refine im (go_aload_n (pc := 43) (Y := YX2_numberHere) 0 dX2_numberHere_43 rfl rfl) ?_
        refine flp (go_gI (pc := 44) (Y := YX2_numberHere) fF22 (by decide) q1637 (Or.inl rfl) dX2_numberHere_44) (fun v9 => ?_)
        refine kdg (fun k10 => ?_)
        refine bpg (fun s11 he12 => ?_)
        refine im (go_callV (pc := 47) (Y := YX2_numberHere) (Yc := YX2_wrong) (y := yX2_wrong) (n := 2) (c0 := 2) (q := (RX2, TX2, 37)) this [iV 4, iV v9] [] rfl rfl k10 (mX2_wrong s0 he12) YOK_X2_wrong rfl q1817 q133 q1816 qs73 q1814 (Nat.le_of_ble_eq_true rfl) (Nat.le_of_ble_eq_true rfl) (Nat.le_of_ble_eq_true rfl) dX2_numberHere_47 (st2 := []) rfl) ?_
        clear he12
        refine e1 (fun q0 => ?_)
        subst q0
        exact go_sub [0, 1] rfl hj50
      · refine e1 (fun q0 => ?_)
        subst q0
        exact go_sub [0, 1] rfl hj50
    · refine im (go_aload_n (pc := 17) (Y := YX2_numberHere) 0 dX2_numberHere_17 rfl rfl) ?_
      refine im (go_iconst (pc := 18) (Y := YX2_numberHere) (v := 1) dX2_numberHere_18 rfl) ?_
      refine im (go_aload_n (pc := 19) (Y := YX2_numberHere) 0 dX2_numberHere_19 rfl rfl) ?_
      refine flp (go_gI (pc := 20) (Y := YX2_numberHere) fF22 (by decide) q1637 (Or.inl rfl) dX2_numberHere_20) (fun v13 => ?_)
      refine kdg (fun k14 => ?_)
      refine bpg (fun s15 he16 => ?_)
      refine im (go_callV (pc := 23) (Y := YX2_numberHere) (Yc := YX2_wrong) (y := yX2_wrong) (n := 2) (c0 := 2) (q := (RX2, TX2, 37)) this [iV 1, iV v13] [] rfl rfl k14 (mX2_wrong s0 he16) YOK_X2_wrong rfl q1817 q133 q1816 qs73 q1814 (Nat.le_of_ble_eq_true rfl) (Nat.le_of_ble_eq_true rfl) (Nat.le_of_ble_eq_true rfl) dX2_numberHere_23 (st2 := []) rfl) ?_
      clear he16
      refine im (go_goto (pc := 26) (Y := YX2_numberHere) 50 dX2_numberHere_26 (by decide)) ?_
      refine e1 (fun q0 => ?_)
      subst q0
      exact go_sub [0, 1] rfl hj50
  · refine im (go_iload_n (pc := 7) (Y := YX2_numberHere) 1 dX2_numberHere_7 rfl rfl) ?_
    refine e2 (fun q0 q1 => ?_)
    subst q0
    subst q1
    exact go_iret (pc := 8) (Y := YX2_numberHere) rfl dX2_numberHere_8
abbrev YX2_pass : mY := (RX2, cX2_pass, 1, (Option.none : Option Jvm.ClassFile.FieldType), 2, 44, false)
theorem YOK_X2_pass : YOK yX2_pass 0 := ⟨⟨by decide +kernel, by decide +kernel⟩, by decide +kernel⟩
theorem mX2_pass {G : gG} (s0 : St) {this : Nat} {sE : St} (h : sX2_pass s0 this = some sE) : Mt G YX2_pass yX2_pass [rV (some this)] s0 none sE := by
  refine go_start (ls0 := [(0, rV (some this))]) (by decide +kernel) rfl (fun h => by cases h) (Nat.le_of_ble_eq_true rfl) rfl ?_
  revert h
  unfold sX2_pass
  refine im (go_aload_n (pc := 0) (Y := YX2_pass) 0 dX2_pass_0 rfl rfl) ?_
  refine flp (go_gI (pc := 1) (Y := YX2_pass) fF30 (by decide) q1646 (Or.inl rfl) dX2_pass_1) (fun v1 => ?_)
  refine flp2 (go_if_ne (pc := 4) (Y := YX2_pass) 11 dX2_pass_4 (by decide)) ?_ ?_
  · refine im (go_aload_n (pc := 7) (Y := YX2_pass) 0 dX2_pass_7 rfl rfl) ?_
    refine kdg (fun k2 => ?_)
    refine bpg (fun s3 he4 => ?_)
    refine im (go_callV (pc := 8) (Y := YX2_pass) (Yc := YX2_next) (y := yX2_next) (n := 0) (c0 := 2) (q := (RX2, TX2, 37)) this [] [] rfl rfl k2 (mX2_next s0 he4) YOK_X2_next rfl q1771 q133 q1770 qs68 q1768 (Nat.le_of_ble_eq_true rfl) (Nat.le_of_ble_eq_true rfl) (Nat.le_of_ble_eq_true rfl) dX2_pass_8 (st2 := []) rfl) ?_
    clear he4
    refine e1 (fun q0 => ?_)
    subst q0
    exact go_vret (pc := 11) (Y := YX2_pass) rfl dX2_pass_11
  · refine e1 (fun q0 => ?_)
    subst q0
    exact go_vret (pc := 11) (Y := YX2_pass) rfl dX2_pass_11
abbrev YX2_number : mY := (RX2, cX2_number, 4, (Option.some .int), 3, 64, false)
theorem YOK_X2_number : YOK yX2_number 2 := ⟨⟨by decide +kernel, by decide +kernel⟩, by decide +kernel⟩
theorem mX2_number {G : gG} (s0 : St) {this : Nat} {p0 : Int32} {p1 : Int32} {sE : St} {vE : Int32} (h : sX2_number s0 this p0 p1 = some (sE, vE)) : Mt G YX2_number yX2_number [rV (some this), iV p0, iV p1] s0 (some (iV vE)) sE := by
  refine go_start (ls0 := [(0, rV (some this)), (1, iV p0), (2, iV p1)]) (by decide +kernel) rfl (fun h => by cases h) (Nat.le_of_ble_eq_true rfl) rfl ?_
  revert h
  unfold sX2_number
  refine im (go_aload_n (pc := 0) (Y := YX2_number) 0 dX2_number_0 rfl rfl) ?_
  refine im (go_iload_n (pc := 1) (Y := YX2_number) 1 dX2_number_1 rfl rfl) ?_
  refine im (go_iload_n (pc := 2) (Y := YX2_number) 2 dX2_number_2 rfl rfl) ?_
  refine kdg (fun k1 => ?_)
  refine bdg (fun s2 v3 he4 => ?_)
  refine im (go_callV (pc := 3) (Y := YX2_number) (Yc := YX2_numberHere) (y := yX2_numberHere) (n := 2) (c0 := 2) (q := (RX2, TX2, 37)) this [iV p0, iV p1] [] rfl rfl k1 (mX2_numberHere s0 he4) YOK_X2_numberHere rfl q1838 q133 q1837 qs78 q1835 (Nat.le_of_ble_eq_true rfl) (Nat.le_of_ble_eq_true rfl) (Nat.le_of_ble_eq_true rfl) dX2_number_3 (st2 := [iV v3]) rfl) ?_
  clear he4
  refine im (go_istore_n (pc := 6) (Y := YX2_number) (ls2 := [(3, iV v3), (0, rV (some this)), (1, iV p0), (2, iV p1)]) dX2_number_6 rfl (Nat.le_of_ble_eq_true rfl) rfl) ?_
  refine im (go_aload_n (pc := 7) (Y := YX2_number) 1 dX2_number_7 rfl rfl) ?_
  refine kdg (fun k5 => ?_)
  refine bpg (fun s6 he7 => ?_)
  refine im (go_callV (pc := 8) (Y := YX2_number) (Yc := YX2_pass) (y := yX2_pass) (n := 0) (c0 := 2) (q := (RX2, TX2, 37)) this [] [] rfl rfl k5 (mX2_pass s2 he7) YOK_X2_pass rfl q1842 q133 q1841 qs79 q1839 (Nat.le_of_ble_eq_true rfl) (Nat.le_of_ble_eq_true rfl) (Nat.le_of_ble_eq_true rfl) dX2_number_8 (st2 := []) rfl) ?_
  clear he7
  refine im (go_iload_n (pc := 11) (Y := YX2_number) 0 dX2_number_11 rfl rfl) ?_
  refine e2 (fun q0 q1 => ?_)
  subst q0
  subst q1
  exact go_iret (pc := 12) (Y := YX2_number) rfl dX2_number_12
abbrev YX2_after : mY := (RX2, cX2_after, 4, (Option.some .int), 7, 150, false)
theorem YOK_X2_after : YOK yX2_after 3 := ⟨⟨by decide +kernel, by decide +kernel⟩, by decide +kernel⟩
theorem mX2_after {G : gG} (s0 : St) {this : Nat} {p0 : Option Nat} {p1 : Int32} {p2 : Int32} {sE : St} {vE : Int32} (h : sX2_after s0 this p0 p1 p2 = some (sE, vE)) : Mt G YX2_after yX2_after [rV (some this), rV p0, iV p1, iV p2] s0 (some (iV vE)) sE := by
  refine go_start (ls0 := [(0, rV (some this)), (1, rV p0), (2, iV p1), (3, iV p2)]) (by decide +kernel) rfl (fun h => by cases h) (Nat.le_of_ble_eq_true rfl) rfl ?_
  revert h
  unfold sX2_after
  refine im (go_aload_n (pc := 0) (Y := YX2_after) 0 dX2_after_0 rfl rfl) ?_
  refine im (go_aload_n (pc := 1) (Y := YX2_after) 1 dX2_after_1 rfl rfl) ?_
  refine kdg (fun k1 => ?_)
  refine bpg (fun s2 he3 => ?_)
  refine im (go_callV (pc := 2) (Y := YX2_after) (Yc := YX2_must) (y := yX2_must) (n := 1) (c0 := 2) (q := (RX2, TX2, 37)) this [rV p0] [] rfl rfl k1 (mX2_must s0 he3) YOK_X2_must rfl q1826 q133 q1825 qs75 q1823 (Nat.le_of_ble_eq_true rfl) (Nat.le_of_ble_eq_true rfl) (Nat.le_of_ble_eq_true rfl) dX2_after_2 (st2 := []) rfl) ?_
  clear he3
  refine im (go_aload_n (pc := 5) (Y := YX2_after) 0 dX2_after_5 rfl rfl) ?_
  refine im (go_iload_n (pc := 6) (Y := YX2_after) 2 dX2_after_6 rfl rfl) ?_
  refine im (go_iload_n (pc := 7) (Y := YX2_after) 3 dX2_after_7 rfl rfl) ?_
  refine kdg (fun k4 => ?_)
  refine bdg (fun s5 v6 he7 => ?_)
  refine im (go_callV (pc := 8) (Y := YX2_after) (Yc := YX2_number) (y := yX2_number) (n := 2) (c0 := 2) (q := (RX2, TX2, 37)) this [iV p1, iV p2] [] rfl rfl k4 (mX2_number s2 he7) YOK_X2_number rfl q1834 q133 q1833 qs77 q1831 (Nat.le_of_ble_eq_true rfl) (Nat.le_of_ble_eq_true rfl) (Nat.le_of_ble_eq_true rfl) dX2_after_8 (st2 := [iV v6]) rfl) ?_
  clear he7
  refine e2 (fun q0 q1 => ?_)
  subst q0
  subst q1
  exact go_iret (pc := 11) (Y := YX2_after) rfl dX2_after_11
abbrev YX2_townLine : mY := (RX2, cX2_townLine, 1, (Option.none : Option Jvm.ClassFile.FieldType), 8, 173, false)
theorem YOK_X2_townLine : YOK yX2_townLine 0 := ⟨⟨by decide +kernel, by decide +kernel⟩, by decide +kernel⟩
theorem mX2_townLine {G : gG} (s0 : St) {this : Nat} {sE : St} (h : sX2_townLine s0 this = some sE) : Mt G YX2_townLine yX2_townLine [rV (some this)] s0 none sE := by
  refine go_start (ls0 := [(0, rV (some this))]) (by decide +kernel) rfl (fun h => by cases h) (Nat.le_of_ble_eq_true rfl) rfl ?_
  revert h
  unfold sX2_townLine
  refine im (go_aload_n (pc := 0) (Y := YX2_townLine) 0 dX2_townLine_0 rfl rfl) ?_
  refine flp (go_gR (pc := 1) (Y := YX2_townLine) fF1012 (by decide) q1649 (Or.inl rfl) dX2_townLine_1) (fun v1 => ?_)
  refine im (go_bipush (pc := 4) (Y := YX2_townLine) (v := 9) dX2_townLine_4 rfl) ?_
  refine flp (go_lI1 (pc := 6) (Y := YX2_townLine) dX2_townLine_6) (fun v2 => ?_)
  refine bpg (fun s3 he21 h22 => ?_)
  have hj19 : Go G YX2_townLine s0 sE none 19 [(0, rV (some this))] [] s3 := by
    clear he21
    revert h22
    refine im (go_aload_n (pc := 19) (Y := YX2_townLine) 0 dX2_townLine_19 rfl rfl) ?_
    refine flp (go_gI (pc := 20) (Y := YX2_townLine) fF30 (by decide) q1646 (Or.inl rfl) dX2_townLine_20) (fun v4 => ?_)
    refine flp2 (go_if_eq (pc := 23) (Y := YX2_townLine) 27 dX2_townLine_23 (by decide)) ?_ ?_
    · refine im (go_aload_n (pc := 27) (Y := YX2_townLine) 0 dX2_townLine_27 rfl rfl) ?_
      refine kdg (fun k5 => ?_)
      refine bpg (fun s6 he7 => ?_)
      refine im (go_callV (pc := 28) (Y := YX2_townLine) (Yc := YX2_next) (y := yX2_next) (n := 0) (c0 := 2) (q := (RX2, TX2, 37)) this [] [] rfl rfl k5 (mX2_next s3 he7) YOK_X2_next rfl q1771 q133 q1770 qs68 q1768 (Nat.le_of_ble_eq_true rfl) (Nat.le_of_ble_eq_true rfl) (Nat.le_of_ble_eq_true rfl) dX2_townLine_28 (st2 := []) rfl) ?_
      clear he7
      refine im (go_aload_n (pc := 31) (Y := YX2_townLine) 0 dX2_townLine_31 rfl rfl) ?_
      refine flp (go_gR (pc := 32) (Y := YX2_townLine) fF1012 (by decide) q1649 (Or.inl rfl) dX2_townLine_32) (fun v8 => ?_)
      refine im (go_iconst (pc := 35) (Y := YX2_townLine) (v := 0) dX2_townLine_35 rfl) ?_
      refine im (go_aload_n (pc := 36) (Y := YX2_townLine) 0 dX2_townLine_36 rfl rfl) ?_
      refine im (go_ldcS (pc := 37) (Y := YX2_townLine) (idx := 216) (i := 4) (tx := "boys") (by decide +kernel) dX2_townLine_37) ?_
      refine im (go_iconst (pc := 39) (Y := YX2_townLine) (v := 0) dX2_townLine_39 rfl) ?_
      refine im (go_bipush (pc := 40) (Y := YX2_townLine) (v := 100) dX2_townLine_40 rfl) ?_
      refine kdg (fun k9 => ?_)
      refine bdg (fun s10 v11 he12 => ?_)
      refine im (go_callV (pc := 42) (Y := YX2_townLine) (Yc := YX2_after) (y := yX2_after) (n := 3) (c0 := 2) (q := (RX2, TX2, 37)) this [rV (s6.ks 4), iV 0, iV 100] [iV 0, rV v8] rfl rfl k9 (mX2_after s6 he12) YOK_X2_after rfl q1822 q133 q1821 qs74 q1819 (Nat.le_of_ble_eq_true rfl) (Nat.le_of_ble_eq_true rfl) (Nat.le_of_ble_eq_true rfl) dX2_townLine_42 (st2 := [iV v11, iV 0, rV v8]) rfl) ?_
      clear he12
      refine flp (go_tI (pc := 45) (Y := YX2_townLine) dX2_townLine_45) (fun s13 => ?_)
      refine im (go_aload_n (pc := 46) (Y := YX2_townLine) 0 dX2_townLine_46 rfl rfl) ?_
      refine flp (go_gI (pc := 47) (Y := YX2_townLine) fF30 (by decide) q1646 (Or.inl rfl) dX2_townLine_47) (fun v14 => ?_)
      refine flp2 (go_if_ne (pc := 50) (Y := YX2_townLine) 61 dX2_townLine_50 (by decide)) ?_ ?_
      · refine im (go_aload_n (pc := 53) (Y := YX2_townLine) 0 dX2_townLine_53 rfl rfl) ?_
        refine flp (go_gR (pc := 54) (Y := YX2_townLine) fF1012 (by decide) q1649 (Or.inl rfl) dX2_townLine_54) (fun v15 => ?_)
        refine im (go_bipush (pc := 57) (Y := YX2_townLine) (v := 9) dX2_townLine_57 rfl) ?_
        refine im (go_iconst (pc := 59) (Y := YX2_townLine) (v := 1) dX2_townLine_59 rfl) ?_
        refine flp (go_tI (pc := 60) (Y := YX2_townLine) dX2_townLine_60) (fun s16 => ?_)
        refine e1 (fun q0 => ?_)
        subst q0
        exact go_vret (pc := 61) (Y := YX2_townLine) rfl dX2_townLine_61
      · refine e1 (fun q0 => ?_)
        subst q0
        exact go_vret (pc := 61) (Y := YX2_townLine) rfl dX2_townLine_61
    · refine e1 (fun q0 => ?_)
      subst q0
      exact go_vret (pc := 26) (Y := YX2_townLine) rfl dX2_townLine_26
  clear h22
  revert he21
  refine flp2 (go_if_le (pc := 7) (Y := YX2_townLine) 19 dX2_townLine_7 (by decide)) ?_ ?_
  · refine e1 (fun q0 => ?_)
    subst q0
    exact go_sub [0] rfl hj19
  · refine im (go_aload_n (pc := 10) (Y := YX2_townLine) 0 dX2_townLine_10 rfl rfl) ?_
    refine im (go_iconst (pc := 11) (Y := YX2_townLine) (v := 3) dX2_townLine_11 rfl) ?_
    refine im (go_aload_n (pc := 12) (Y := YX2_townLine) 0 dX2_townLine_12 rfl rfl) ?_
    refine flp (go_gI (pc := 13) (Y := YX2_townLine) fF22 (by decide) q1637 (Or.inl rfl) dX2_townLine_13) (fun v17 => ?_)
    refine kdg (fun k18 => ?_)
    refine bpg (fun s19 he20 => ?_)
    refine im (go_callV (pc := 16) (Y := YX2_townLine) (Yc := YX2_wrong) (y := yX2_wrong) (n := 2) (c0 := 2) (q := (RX2, TX2, 37)) this [iV 3, iV v17] [] rfl rfl k18 (mX2_wrong s0 he20) YOK_X2_wrong rfl q1817 q133 q1816 qs73 q1814 (Nat.le_of_ble_eq_true rfl) (Nat.le_of_ble_eq_true rfl) (Nat.le_of_ble_eq_true rfl) dX2_townLine_16 (st2 := []) rfl) ?_
    clear he20
    refine e1 (fun q0 => ?_)
    subst q0
    exact go_sub [0] rfl hj19
abbrev YX2_begins : mY := (RX2, cX2_begins, 3, (Option.some .boolean), 5, 108, false)
theorem YOK_X2_begins : YOK yX2_begins 2 := ⟨⟨by decide +kernel, by decide +kernel⟩, by decide +kernel⟩
theorem mX2_begins {G : gG} (s0 : St) {this : Nat} {p0 : Option Nat} {p1 : Int32} {sE : St} {vE : Int32} (h : sX2_begins s0 this p0 p1 = some (sE, vE)) : Mt G YX2_begins yX2_begins [rV (some this), rV p0, iV p1] s0 (some (iV vE)) sE := by
  refine go_start (ls0 := [(0, rV (some this)), (1, rV p0), (2, iV p1)]) (by decide +kernel) rfl (fun h => by cases h) (Nat.le_of_ble_eq_true rfl) rfl ?_
  revert h
  unfold sX2_begins
  refine im (go_aload_n (pc := 0) (Y := YX2_begins) 0 dX2_begins_0 rfl rfl) ?_
  refine im (go_aload_n (pc := 1) (Y := YX2_begins) 1 dX2_begins_1 rfl rfl) ?_
  refine kdg (fun k1 => ?_)
  refine bpg (fun v2 he3 => ?_)
  refine im (go_callV (pc := 2) (Y := YX2_begins) (Yc := YX2_isWord) (y := yX2_isWord) (n := 1) (c0 := 2) (q := (RX2, TX2, 37)) this [rV p0] [] rfl rfl k1 (mX2_isWord s0 he3) YOK_X2_isWord rfl q1790 q133 q1789 qs71 q1787 (Nat.le_of_ble_eq_true rfl) (Nat.le_of_ble_eq_true rfl) (Nat.le_of_ble_eq_true rfl) dX2_begins_2 (st2 := [iV v2]) rfl) ?_
  clear he3
  refine flp2 (go_if_ne (pc := 5) (Y := YX2_begins) 10 dX2_begins_5 (by decide)) ?_ ?_
  · refine im (go_iconst (pc := 8) (Y := YX2_begins) (v := 0) dX2_begins_8 rfl) ?_
    refine e2 (fun q0 q1 => ?_)
    subst q0
    subst q1
    exact go_zret (pc := 9) (Y := YX2_begins) rfl rfl dX2_begins_9
  · refine im (go_iload_n (pc := 10) (Y := YX2_begins) 2 dX2_begins_10 rfl rfl) ?_
    refine bpg (fun s4 he21 h22 => ?_)
    have hj23 : Go G YX2_begins s0 sE (some (iV vE)) 23 [(0, rV (some this))] [] s4 := by
      clear he21
      revert h22
      refine im (go_aload_n (pc := 23) (Y := YX2_begins) 0 dX2_begins_23 rfl rfl) ?_
      refine flp (go_gR (pc := 24) (Y := YX2_begins) fF1012 (by decide) q1649 (Or.inl rfl) dX2_begins_24) (fun v5 => ?_)
      refine im (go_bipush (pc := 27) (Y := YX2_begins) (v := 9) dX2_begins_27 rfl) ?_
      refine flp (go_lI1 (pc := 29) (Y := YX2_begins) dX2_begins_29) (fun v6 => ?_)
      refine bpg (fun s7 he15 h16 => ?_)
      have hj43 : Go G YX2_begins s0 sE (some (iV vE)) 43 [(0, rV (some this))] [] s7 := by
        clear he15
        revert h16
        refine im (go_aload_n (pc := 43) (Y := YX2_begins) 0 dX2_begins_43 rfl rfl) ?_
        refine kdg (fun k8 => ?_)
        refine bpg (fun s9 he10 => ?_)
        refine im (go_callV (pc := 44) (Y := YX2_begins) (Yc := YX2_pass) (y := yX2_pass) (n := 0) (c0 := 2) (q := (RX2, TX2, 37)) this [] [] rfl rfl k8 (mX2_pass s7 he10) YOK_X2_pass rfl q1842 q133 q1841 qs79 q1839 (Nat.le_of_ble_eq_true rfl) (Nat.le_of_ble_eq_true rfl) (Nat.le_of_ble_eq_true rfl) dX2_begins_44 (st2 := []) rfl) ?_
        clear he10
        refine im (go_iconst (pc := 47) (Y := YX2_begins) (v := 1) dX2_begins_47 rfl) ?_
        refine e2 (fun q0 q1 => ?_)
        subst q0
        subst q1
        exact go_zret (pc := 48) (Y := YX2_begins) rfl rfl dX2_begins_48
      clear h16
      revert he15
      refine flp2 (go_if_ne (pc := 30) (Y := YX2_begins) 43 dX2_begins_30 (by decide)) ?_ ?_
      · refine im (go_aload_n (pc := 33) (Y := YX2_begins) 0 dX2_begins_33 rfl rfl) ?_
        refine im (go_bipush (pc := 34) (Y := YX2_begins) (v := 6) dX2_begins_34 rfl) ?_
        refine im (go_aload_n (pc := 36) (Y := YX2_begins) 0 dX2_begins_36 rfl rfl) ?_
        refine flp (go_gI (pc := 37) (Y := YX2_begins) fF22 (by decide) q1637 (Or.inl rfl) dX2_begins_37) (fun v11 => ?_)
        refine kdg (fun k12 => ?_)
        refine bpg (fun s13 he14 => ?_)
        refine im (go_callV (pc := 40) (Y := YX2_begins) (Yc := YX2_wrong) (y := yX2_wrong) (n := 2) (c0 := 2) (q := (RX2, TX2, 37)) this [iV 6, iV v11] [] rfl rfl k12 (mX2_wrong s4 he14) YOK_X2_wrong rfl q1817 q133 q1816 qs73 q1814 (Nat.le_of_ble_eq_true rfl) (Nat.le_of_ble_eq_true rfl) (Nat.le_of_ble_eq_true rfl) dX2_begins_40 (st2 := []) rfl) ?_
        clear he14
        refine e1 (fun q0 => ?_)
        subst q0
        exact go_sub [0] rfl hj43
      · refine e1 (fun q0 => ?_)
        subst q0
        exact go_sub [0] rfl hj43
    clear h22
    revert he21
    refine flp2 (go_if_ne (pc := 11) (Y := YX2_begins) 23 dX2_begins_11 (by decide)) ?_ ?_
    · refine im (go_aload_n (pc := 14) (Y := YX2_begins) 0 dX2_begins_14 rfl rfl) ?_
      refine im (go_iconst (pc := 15) (Y := YX2_begins) (v := 5) dX2_begins_15 rfl) ?_
      refine im (go_aload_n (pc := 16) (Y := YX2_begins) 0 dX2_begins_16 rfl rfl) ?_
      refine flp (go_gI (pc := 17) (Y := YX2_begins) fF22 (by decide) q1637 (Or.inl rfl) dX2_begins_17) (fun v17 => ?_)
      refine kdg (fun k18 => ?_)
      refine bpg (fun s19 he20 => ?_)
      refine im (go_callV (pc := 20) (Y := YX2_begins) (Yc := YX2_wrong) (y := yX2_wrong) (n := 2) (c0 := 2) (q := (RX2, TX2, 37)) this [iV 5, iV v17] [] rfl rfl k18 (mX2_wrong s0 he20) YOK_X2_wrong rfl q1817 q133 q1816 qs73 q1814 (Nat.le_of_ble_eq_true rfl) (Nat.le_of_ble_eq_true rfl) (Nat.le_of_ble_eq_true rfl) dX2_begins_20 (st2 := []) rfl) ?_
      clear he20
      refine e1 (fun q0 => ?_)
      subst q0
      exact go_sub [0] rfl hj23
    · refine e1 (fun q0 => ?_)
      subst q0
      exact go_sub [0] rfl hj23
abbrev YX2_mustName : mY := (RX2, cX2_mustName, 1, (Option.none : Option Jvm.ClassFile.FieldType), 5, 108, false)
theorem YOK_X2_mustName : YOK yX2_mustName 0 := ⟨⟨by decide +kernel, by decide +kernel⟩, by decide +kernel⟩
theorem mX2_mustName {G : gG} (s0 : St) {this : Nat} {sE : St} (h : sX2_mustName s0 this = some sE) : Mt G YX2_mustName yX2_mustName [rV (some this)] s0 none sE := by
  refine go_start (ls0 := [(0, rV (some this))]) (by decide +kernel) rfl (fun h => by cases h) (Nat.le_of_ble_eq_true rfl) rfl ?_
  revert h
  unfold sX2_mustName
  refine im (go_aload_n (pc := 0) (Y := YX2_mustName) 0 dX2_mustName_0 rfl rfl) ?_
  refine flp (go_gI (pc := 1) (Y := YX2_mustName) fF24 (by decide) q1639 (Or.inl rfl) dX2_mustName_1) (fun v1 => ?_)
  refine im (go_iconst (pc := 4) (Y := YX2_mustName) (v := 2) dX2_mustName_4 rfl) ?_
  refine flp2 (go_icmp_ne (pc := 5) (Y := YX2_mustName) 89 dX2_mustName_5 (by decide)) ?_ ?_
  · refine im (go_aload_n (pc := 8) (Y := YX2_mustName) 0 dX2_mustName_8 rfl rfl) ?_
    refine im (go_ldcS (pc := 9) (Y := YX2_mustName) (idx := 116) (i := 17) (tx := "town") (by decide +kernel) dX2_mustName_9) ?_
    refine kdg (fun k2 => ?_)
    refine bpg (fun v3 he4 => ?_)
    refine im (go_callV (pc := 11) (Y := YX2_mustName) (Yc := YX2_isWord) (y := yX2_isWord) (n := 1) (c0 := 2) (q := (RX2, TX2, 37)) this [rV (s0.ks 17)] [] rfl rfl k2 (mX2_isWord s0 he4) YOK_X2_isWord rfl q1790 q133 q1789 qs71 q1787 (Nat.le_of_ble_eq_true rfl) (Nat.le_of_ble_eq_true rfl) (Nat.le_of_ble_eq_true rfl) dX2_mustName_11 (st2 := [iV v3]) rfl) ?_
    clear he4
    refine flp2 (go_if_ne (pc := 14) (Y := YX2_mustName) 89 dX2_mustName_14 (by decide)) ?_ ?_
    · refine im (go_aload_n (pc := 17) (Y := YX2_mustName) 0 dX2_mustName_17 rfl rfl) ?_
      refine im (go_ldcS (pc := 18) (Y := YX2_mustName) (idx := 118) (i := 13) (tx := "place") (by decide +kernel) dX2_mustName_18) ?_
      refine kdg (fun k5 => ?_)
      refine bpg (fun v6 he7 => ?_)
      refine im (go_callV (pc := 20) (Y := YX2_mustName) (Yc := YX2_isWord) (y := yX2_isWord) (n := 1) (c0 := 2) (q := (RX2, TX2, 37)) this [rV (s0.ks 13)] [] rfl rfl k5 (mX2_isWord s0 he7) YOK_X2_isWord rfl q1790 q133 q1789 qs71 q1787 (Nat.le_of_ble_eq_true rfl) (Nat.le_of_ble_eq_true rfl) (Nat.le_of_ble_eq_true rfl) dX2_mustName_20 (st2 := [iV v6]) rfl) ?_
      clear he7
      refine flp2 (go_if_ne (pc := 23) (Y := YX2_mustName) 89 dX2_mustName_23 (by decide)) ?_ ?_
      · refine im (go_aload_n (pc := 26) (Y := YX2_mustName) 0 dX2_mustName_26 rfl rfl) ?_
        refine im (go_ldcS (pc := 27) (Y := YX2_mustName) (idx := 119) (i := 16) (tx := "sees") (by decide +kernel) dX2_mustName_27) ?_
        refine kdg (fun k8 => ?_)
        refine bpg (fun v9 he10 => ?_)
        refine im (go_callV (pc := 29) (Y := YX2_mustName) (Yc := YX2_isWord) (y := yX2_isWord) (n := 1) (c0 := 2) (q := (RX2, TX2, 37)) this [rV (s0.ks 16)] [] rfl rfl k8 (mX2_isWord s0 he10) YOK_X2_isWord rfl q1790 q133 q1789 qs71 q1787 (Nat.le_of_ble_eq_true rfl) (Nat.le_of_ble_eq_true rfl) (Nat.le_of_ble_eq_true rfl) dX2_mustName_29 (st2 := [iV v9]) rfl) ?_
        clear he10
        refine flp2 (go_if_ne (pc := 32) (Y := YX2_mustName) 89 dX2_mustName_32 (by decide)) ?_ ?_
        · refine im (go_aload_n (pc := 35) (Y := YX2_mustName) 0 dX2_mustName_35 rfl rfl) ?_
          refine im (go_ldcS (pc := 36) (Y := YX2_mustName) (idx := 121) (i := 12) (tx := "person") (by decide +kernel) dX2_mustName_36) ?_
          refine kdg (fun k11 => ?_)
          refine bpg (fun v12 he13 => ?_)
          refine im (go_callV (pc := 38) (Y := YX2_mustName) (Yc := YX2_isWord) (y := yX2_isWord) (n := 1) (c0 := 2) (q := (RX2, TX2, 37)) this [rV (s0.ks 12)] [] rfl rfl k11 (mX2_isWord s0 he13) YOK_X2_isWord rfl q1790 q133 q1789 qs71 q1787 (Nat.le_of_ble_eq_true rfl) (Nat.le_of_ble_eq_true rfl) (Nat.le_of_ble_eq_true rfl) dX2_mustName_38 (st2 := [iV v12]) rfl) ?_
          clear he13
          refine flp2 (go_if_ne (pc := 41) (Y := YX2_mustName) 89 dX2_mustName_41 (by decide)) ?_ ?_
          · refine im (go_aload_n (pc := 44) (Y := YX2_mustName) 0 dX2_mustName_44 rfl rfl) ?_
            refine im (go_ldcS (pc := 45) (Y := YX2_mustName) (idx := 123) (i := 9) (tx := "goes") (by decide +kernel) dX2_mustName_45) ?_
            refine kdg (fun k14 => ?_)
            refine bpg (fun v15 he16 => ?_)
            refine im (go_callV (pc := 47) (Y := YX2_mustName) (Yc := YX2_isWord) (y := yX2_isWord) (n := 1) (c0 := 2) (q := (RX2, TX2, 37)) this [rV (s0.ks 9)] [] rfl rfl k14 (mX2_isWord s0 he16) YOK_X2_isWord rfl q1790 q133 q1789 qs71 q1787 (Nat.le_of_ble_eq_true rfl) (Nat.le_of_ble_eq_true rfl) (Nat.le_of_ble_eq_true rfl) dX2_mustName_47 (st2 := [iV v15]) rfl) ?_
            clear he16
            refine flp2 (go_if_ne (pc := 50) (Y := YX2_mustName) 89 dX2_mustName_50 (by decide)) ?_ ?_
            · refine im (go_aload_n (pc := 53) (Y := YX2_mustName) 0 dX2_mustName_53 rfl rfl) ?_
              refine im (go_ldcS (pc := 54) (Y := YX2_mustName) (idx := 125) (i := 15) (tx := "quarrel") (by decide +kernel) dX2_mustName_54) ?_
              refine kdg (fun k17 => ?_)
              refine bpg (fun v18 he19 => ?_)
              refine im (go_callV (pc := 56) (Y := YX2_mustName) (Yc := YX2_isWord) (y := yX2_isWord) (n := 1) (c0 := 2) (q := (RX2, TX2, 37)) this [rV (s0.ks 15)] [] rfl rfl k17 (mX2_isWord s0 he19) YOK_X2_isWord rfl q1790 q133 q1789 qs71 q1787 (Nat.le_of_ble_eq_true rfl) (Nat.le_of_ble_eq_true rfl) (Nat.le_of_ble_eq_true rfl) dX2_mustName_56 (st2 := [iV v18]) rfl) ?_
              clear he19
              refine flp2 (go_if_ne (pc := 59) (Y := YX2_mustName) 89 dX2_mustName_59 (by decide)) ?_ ?_
              · refine im (go_aload_n (pc := 62) (Y := YX2_mustName) 0 dX2_mustName_62 rfl rfl) ?_
                refine im (go_ldcS (pc := 63) (Y := YX2_mustName) (idx := 127) (i := 10) (tx := "hire") (by decide +kernel) dX2_mustName_63) ?_
                refine kdg (fun k20 => ?_)
                refine bpg (fun v21 he22 => ?_)
                refine im (go_callV (pc := 65) (Y := YX2_mustName) (Yc := YX2_isWord) (y := yX2_isWord) (n := 1) (c0 := 2) (q := (RX2, TX2, 37)) this [rV (s0.ks 10)] [] rfl rfl k20 (mX2_isWord s0 he22) YOK_X2_isWord rfl q1790 q133 q1789 qs71 q1787 (Nat.le_of_ble_eq_true rfl) (Nat.le_of_ble_eq_true rfl) (Nat.le_of_ble_eq_true rfl) dX2_mustName_65 (st2 := [iV v21]) rfl) ?_
                clear he22
                refine flp2 (go_if_ne (pc := 68) (Y := YX2_mustName) 89 dX2_mustName_68 (by decide)) ?_ ?_
                · refine im (go_aload_n (pc := 71) (Y := YX2_mustName) 0 dX2_mustName_71 rfl rfl) ?_
                  refine im (go_ldcS (pc := 72) (Y := YX2_mustName) (idx := 129) (i := 18) (tx := "unsure") (by decide +kernel) dX2_mustName_72) ?_
                  refine kdg (fun k23 => ?_)
                  refine bpg (fun v24 he25 => ?_)
                  refine im (go_callV (pc := 74) (Y := YX2_mustName) (Yc := YX2_isWord) (y := yX2_isWord) (n := 1) (c0 := 2) (q := (RX2, TX2, 37)) this [rV (s0.ks 18)] [] rfl rfl k23 (mX2_isWord s0 he25) YOK_X2_isWord rfl q1790 q133 q1789 qs71 q1787 (Nat.le_of_ble_eq_true rfl) (Nat.le_of_ble_eq_true rfl) (Nat.le_of_ble_eq_true rfl) dX2_mustName_74 (st2 := [iV v24]) rfl) ?_
                  clear he25
                  refine flp2 (go_if_ne (pc := 77) (Y := YX2_mustName) 89 dX2_mustName_77 (by decide)) ?_ ?_
                  · refine im (go_aload_n (pc := 80) (Y := YX2_mustName) 0 dX2_mustName_80 rfl rfl) ?_
                    refine im (go_ldcS (pc := 81) (Y := YX2_mustName) (idx := 131) (i := 6) (tx := "ended") (by decide +kernel) dX2_mustName_81) ?_
                    refine kdg (fun k26 => ?_)
                    refine bpg (fun v27 he28 => ?_)
                    refine im (go_callV (pc := 83) (Y := YX2_mustName) (Yc := YX2_isWord) (y := yX2_isWord) (n := 1) (c0 := 2) (q := (RX2, TX2, 37)) this [rV (s0.ks 6)] [] rfl rfl k26 (mX2_isWord s0 he28) YOK_X2_isWord rfl q1790 q133 q1789 qs71 q1787 (Nat.le_of_ble_eq_true rfl) (Nat.le_of_ble_eq_true rfl) (Nat.le_of_ble_eq_true rfl) dX2_mustName_83 (st2 := [iV v27]) rfl) ?_
                    clear he28
                    refine flp2 (go_if_eq (pc := 86) (Y := YX2_mustName) 98 dX2_mustName_86 (by decide)) ?_ ?_
                    · refine e1 (fun q0 => ?_)
                      subst q0
                      exact go_vret (pc := 98) (Y := YX2_mustName) rfl dX2_mustName_98
                    · refine im (go_aload_n (pc := 89) (Y := YX2_mustName) 0 dX2_mustName_89 rfl rfl) ?_
                      refine im (go_iconst (pc := 90) (Y := YX2_mustName) (v := 1) dX2_mustName_90 rfl) ?_
                      refine im (go_aload_n (pc := 91) (Y := YX2_mustName) 0 dX2_mustName_91 rfl rfl) ?_
                      refine flp (go_gI (pc := 92) (Y := YX2_mustName) fF22 (by decide) q1637 (Or.inl rfl) dX2_mustName_92) (fun v29 => ?_)
                      refine kdg (fun k30 => ?_)
                      refine bpg (fun s31 he32 => ?_)
                      refine im (go_callV (pc := 95) (Y := YX2_mustName) (Yc := YX2_wrong) (y := yX2_wrong) (n := 2) (c0 := 2) (q := (RX2, TX2, 37)) this [iV 1, iV v29] [] rfl rfl k30 (mX2_wrong s0 he32) YOK_X2_wrong rfl q1817 q133 q1816 qs73 q1814 (Nat.le_of_ble_eq_true rfl) (Nat.le_of_ble_eq_true rfl) (Nat.le_of_ble_eq_true rfl) dX2_mustName_95 (st2 := []) rfl) ?_
                      clear he32
                      refine e1 (fun q0 => ?_)
                      subst q0
                      exact go_vret (pc := 98) (Y := YX2_mustName) rfl dX2_mustName_98
                  · refine im (go_aload_n (pc := 89) (Y := YX2_mustName) 0 dX2_mustName_89 rfl rfl) ?_
                    refine im (go_iconst (pc := 90) (Y := YX2_mustName) (v := 1) dX2_mustName_90 rfl) ?_
                    refine im (go_aload_n (pc := 91) (Y := YX2_mustName) 0 dX2_mustName_91 rfl rfl) ?_
                    refine flp (go_gI (pc := 92) (Y := YX2_mustName) fF22 (by decide) q1637 (Or.inl rfl) dX2_mustName_92) (fun v33 => ?_)
                    refine kdg (fun k34 => ?_)
                    refine bpg (fun s35 he36 => ?_)
                    refine im (go_callV (pc := 95) (Y := YX2_mustName) (Yc := YX2_wrong) (y := yX2_wrong) (n := 2) (c0 := 2) (q := (RX2, TX2, 37)) this [iV 1, iV v33] [] rfl rfl k34 (mX2_wrong s0 he36) YOK_X2_wrong rfl q1817 q133 q1816 qs73 q1814 (Nat.le_of_ble_eq_true rfl) (Nat.le_of_ble_eq_true rfl) (Nat.le_of_ble_eq_true rfl) dX2_mustName_95 (st2 := []) rfl) ?_
                    clear he36
                    refine e1 (fun q0 => ?_)
                    subst q0
                    exact go_vret (pc := 98) (Y := YX2_mustName) rfl dX2_mustName_98
                · refine im (go_aload_n (pc := 89) (Y := YX2_mustName) 0 dX2_mustName_89 rfl rfl) ?_
                  refine im (go_iconst (pc := 90) (Y := YX2_mustName) (v := 1) dX2_mustName_90 rfl) ?_
                  refine im (go_aload_n (pc := 91) (Y := YX2_mustName) 0 dX2_mustName_91 rfl rfl) ?_
                  refine flp (go_gI (pc := 92) (Y := YX2_mustName) fF22 (by decide) q1637 (Or.inl rfl) dX2_mustName_92) (fun v37 => ?_)
                  refine kdg (fun k38 => ?_)
                  refine bpg (fun s39 he40 => ?_)
                  refine im (go_callV (pc := 95) (Y := YX2_mustName) (Yc := YX2_wrong) (y := yX2_wrong) (n := 2) (c0 := 2) (q := (RX2, TX2, 37)) this [iV 1, iV v37] [] rfl rfl k38 (mX2_wrong s0 he40) YOK_X2_wrong rfl q1817 q133 q1816 qs73 q1814 (Nat.le_of_ble_eq_true rfl) (Nat.le_of_ble_eq_true rfl) (Nat.le_of_ble_eq_true rfl) dX2_mustName_95 (st2 := []) rfl) ?_
                  clear he40
                  refine e1 (fun q0 => ?_)
                  subst q0
                  exact go_vret (pc := 98) (Y := YX2_mustName) rfl dX2_mustName_98
              · refine im (go_aload_n (pc := 89) (Y := YX2_mustName) 0 dX2_mustName_89 rfl rfl) ?_
                refine im (go_iconst (pc := 90) (Y := YX2_mustName) (v := 1) dX2_mustName_90 rfl) ?_
                refine im (go_aload_n (pc := 91) (Y := YX2_mustName) 0 dX2_mustName_91 rfl rfl) ?_
                refine flp (go_gI (pc := 92) (Y := YX2_mustName) fF22 (by decide) q1637 (Or.inl rfl) dX2_mustName_92) (fun v41 => ?_)
                refine kdg (fun k42 => ?_)
                refine bpg (fun s43 he44 => ?_)
                refine im (go_callV (pc := 95) (Y := YX2_mustName) (Yc := YX2_wrong) (y := yX2_wrong) (n := 2) (c0 := 2) (q := (RX2, TX2, 37)) this [iV 1, iV v41] [] rfl rfl k42 (mX2_wrong s0 he44) YOK_X2_wrong rfl q1817 q133 q1816 qs73 q1814 (Nat.le_of_ble_eq_true rfl) (Nat.le_of_ble_eq_true rfl) (Nat.le_of_ble_eq_true rfl) dX2_mustName_95 (st2 := []) rfl) ?_
                clear he44
                refine e1 (fun q0 => ?_)
                subst q0
                exact go_vret (pc := 98) (Y := YX2_mustName) rfl dX2_mustName_98
            · refine im (go_aload_n (pc := 89) (Y := YX2_mustName) 0 dX2_mustName_89 rfl rfl) ?_
              refine im (go_iconst (pc := 90) (Y := YX2_mustName) (v := 1) dX2_mustName_90 rfl) ?_
              refine im (go_aload_n (pc := 91) (Y := YX2_mustName) 0 dX2_mustName_91 rfl rfl) ?_
              refine flp (go_gI (pc := 92) (Y := YX2_mustName) fF22 (by decide) q1637 (Or.inl rfl) dX2_mustName_92) (fun v45 => ?_)
              refine kdg (fun k46 => ?_)
              refine bpg (fun s47 he48 => ?_)
              refine im (go_callV (pc := 95) (Y := YX2_mustName) (Yc := YX2_wrong) (y := yX2_wrong) (n := 2) (c0 := 2) (q := (RX2, TX2, 37)) this [iV 1, iV v45] [] rfl rfl k46 (mX2_wrong s0 he48) YOK_X2_wrong rfl q1817 q133 q1816 qs73 q1814 (Nat.le_of_ble_eq_true rfl) (Nat.le_of_ble_eq_true rfl) (Nat.le_of_ble_eq_true rfl) dX2_mustName_95 (st2 := []) rfl) ?_
              clear he48
              refine e1 (fun q0 => ?_)
              subst q0
              exact go_vret (pc := 98) (Y := YX2_mustName) rfl dX2_mustName_98
          · refine im (go_aload_n (pc := 89) (Y := YX2_mustName) 0 dX2_mustName_89 rfl rfl) ?_
            refine im (go_iconst (pc := 90) (Y := YX2_mustName) (v := 1) dX2_mustName_90 rfl) ?_
            refine im (go_aload_n (pc := 91) (Y := YX2_mustName) 0 dX2_mustName_91 rfl rfl) ?_
            refine flp (go_gI (pc := 92) (Y := YX2_mustName) fF22 (by decide) q1637 (Or.inl rfl) dX2_mustName_92) (fun v49 => ?_)
            refine kdg (fun k50 => ?_)
            refine bpg (fun s51 he52 => ?_)
            refine im (go_callV (pc := 95) (Y := YX2_mustName) (Yc := YX2_wrong) (y := yX2_wrong) (n := 2) (c0 := 2) (q := (RX2, TX2, 37)) this [iV 1, iV v49] [] rfl rfl k50 (mX2_wrong s0 he52) YOK_X2_wrong rfl q1817 q133 q1816 qs73 q1814 (Nat.le_of_ble_eq_true rfl) (Nat.le_of_ble_eq_true rfl) (Nat.le_of_ble_eq_true rfl) dX2_mustName_95 (st2 := []) rfl) ?_
            clear he52
            refine e1 (fun q0 => ?_)
            subst q0
            exact go_vret (pc := 98) (Y := YX2_mustName) rfl dX2_mustName_98
        · refine im (go_aload_n (pc := 89) (Y := YX2_mustName) 0 dX2_mustName_89 rfl rfl) ?_
          refine im (go_iconst (pc := 90) (Y := YX2_mustName) (v := 1) dX2_mustName_90 rfl) ?_
          refine im (go_aload_n (pc := 91) (Y := YX2_mustName) 0 dX2_mustName_91 rfl rfl) ?_
          refine flp (go_gI (pc := 92) (Y := YX2_mustName) fF22 (by decide) q1637 (Or.inl rfl) dX2_mustName_92) (fun v53 => ?_)
          refine kdg (fun k54 => ?_)
          refine bpg (fun s55 he56 => ?_)
          refine im (go_callV (pc := 95) (Y := YX2_mustName) (Yc := YX2_wrong) (y := yX2_wrong) (n := 2) (c0 := 2) (q := (RX2, TX2, 37)) this [iV 1, iV v53] [] rfl rfl k54 (mX2_wrong s0 he56) YOK_X2_wrong rfl q1817 q133 q1816 qs73 q1814 (Nat.le_of_ble_eq_true rfl) (Nat.le_of_ble_eq_true rfl) (Nat.le_of_ble_eq_true rfl) dX2_mustName_95 (st2 := []) rfl) ?_
          clear he56
          refine e1 (fun q0 => ?_)
          subst q0
          exact go_vret (pc := 98) (Y := YX2_mustName) rfl dX2_mustName_98
      · refine im (go_aload_n (pc := 89) (Y := YX2_mustName) 0 dX2_mustName_89 rfl rfl) ?_
        refine im (go_iconst (pc := 90) (Y := YX2_mustName) (v := 1) dX2_mustName_90 rfl) ?_
        refine im (go_aload_n (pc := 91) (Y := YX2_mustName) 0 dX2_mustName_91 rfl rfl) ?_
        refine flp (go_gI (pc := 92) (Y := YX2_mustName) fF22 (by decide) q1637 (Or.inl rfl) dX2_mustName_92) (fun v57 => ?_)
        refine kdg (fun k58 => ?_)
        refine bpg (fun s59 he60 => ?_)
        refine im (go_callV (pc := 95) (Y := YX2_mustName) (Yc := YX2_wrong) (y := yX2_wrong) (n := 2) (c0 := 2) (q := (RX2, TX2, 37)) this [iV 1, iV v57] [] rfl rfl k58 (mX2_wrong s0 he60) YOK_X2_wrong rfl q1817 q133 q1816 qs73 q1814 (Nat.le_of_ble_eq_true rfl) (Nat.le_of_ble_eq_true rfl) (Nat.le_of_ble_eq_true rfl) dX2_mustName_95 (st2 := []) rfl) ?_
        clear he60
        refine e1 (fun q0 => ?_)
        subst q0
        exact go_vret (pc := 98) (Y := YX2_mustName) rfl dX2_mustName_98
    · refine im (go_aload_n (pc := 89) (Y := YX2_mustName) 0 dX2_mustName_89 rfl rfl) ?_
      refine im (go_iconst (pc := 90) (Y := YX2_mustName) (v := 1) dX2_mustName_90 rfl) ?_
      refine im (go_aload_n (pc := 91) (Y := YX2_mustName) 0 dX2_mustName_91 rfl rfl) ?_
      refine flp (go_gI (pc := 92) (Y := YX2_mustName) fF22 (by decide) q1637 (Or.inl rfl) dX2_mustName_92) (fun v61 => ?_)
      refine kdg (fun k62 => ?_)
      refine bpg (fun s63 he64 => ?_)
      refine im (go_callV (pc := 95) (Y := YX2_mustName) (Yc := YX2_wrong) (y := yX2_wrong) (n := 2) (c0 := 2) (q := (RX2, TX2, 37)) this [iV 1, iV v61] [] rfl rfl k62 (mX2_wrong s0 he64) YOK_X2_wrong rfl q1817 q133 q1816 qs73 q1814 (Nat.le_of_ble_eq_true rfl) (Nat.le_of_ble_eq_true rfl) (Nat.le_of_ble_eq_true rfl) dX2_mustName_95 (st2 := []) rfl) ?_
      clear he64
      refine e1 (fun q0 => ?_)
      subst q0
      exact go_vret (pc := 98) (Y := YX2_mustName) rfl dX2_mustName_98
  · refine im (go_aload_n (pc := 89) (Y := YX2_mustName) 0 dX2_mustName_89 rfl rfl) ?_
    refine im (go_iconst (pc := 90) (Y := YX2_mustName) (v := 1) dX2_mustName_90 rfl) ?_
    refine im (go_aload_n (pc := 91) (Y := YX2_mustName) 0 dX2_mustName_91 rfl rfl) ?_
    refine flp (go_gI (pc := 92) (Y := YX2_mustName) fF22 (by decide) q1637 (Or.inl rfl) dX2_mustName_92) (fun v65 => ?_)
    refine kdg (fun k66 => ?_)
    refine bpg (fun s67 he68 => ?_)
    refine im (go_callV (pc := 95) (Y := YX2_mustName) (Yc := YX2_wrong) (y := yX2_wrong) (n := 2) (c0 := 2) (q := (RX2, TX2, 37)) this [iV 1, iV v65] [] rfl rfl k66 (mX2_wrong s0 he68) YOK_X2_wrong rfl q1817 q133 q1816 qs73 q1814 (Nat.le_of_ble_eq_true rfl) (Nat.le_of_ble_eq_true rfl) (Nat.le_of_ble_eq_true rfl) dX2_mustName_95 (st2 := []) rfl) ?_
    clear he68
    refine e1 (fun q0 => ?_)
    subst q0
    exact go_vret (pc := 98) (Y := YX2_mustName) rfl dX2_mustName_98
abbrev YX2_find : mY := (RX2, cX2_find, 4, (Option.some .int), 0, 0, false)
theorem YOK_X2_find : YOK yX2_find 0 := ⟨⟨by decide +kernel, by decide +kernel⟩, by decide +kernel⟩
theorem sX2_find_L44_go {G : gG} {s0 sE : St} {rE : Option V3} (s6 : St) (this : Nat) (i1 : Int32) : ∀ (n : Nat) (v7 : Int32) (v8 : Int32) (v9 : Int32), sX2_find_L44 s6 this i1 n v7 v8 = some v9 → Go G YX2_find s0 sE rE 91 [(0, rV (some this)), (1, iV i1), (2, iV v9)] [] s6 → Go G YX2_find s0 sE rE 44 [(0, rV (some this)), (1, iV i1), (2, iV v7), (3, iV v8)] [] s6 := by
  intro n
  induction n with
  | zero => intro v7 v8 v9 h hx; rw [sX2_find_L44] at h; cases h
  | succ n ih =>
    intro v7 v8 v9 h hx
    revert h
    rw [sX2_find_L44]
    refine im (go_iload_n (pc := 44) (Y := YX2_find) 3 dX2_find_44 rfl rfl) ?_
    refine im (go_aload_n (pc := 45) (Y := YX2_find) 0 dX2_find_45 rfl rfl) ?_
    refine flp (go_gI (pc := 46) (Y := YX2_find) fF26 (by decide) q1641 (Or.inl rfl) dX2_find_46) (fun v10 => ?_)
    refine flp2 (go_icmp_ge (pc := 49) (Y := YX2_find) 91 dX2_find_49 (by decide)) ?_ ?_
    · refine e1 (fun q0 => ?_)
      subst q0
      exact go_sub [0, 1, 2] rfl hx
    · refine im (go_iload_n (pc := 52) (Y := YX2_find) 2 dX2_find_52 rfl rfl) ?_
      refine flp2 (go_if_eq (pc := 53) (Y := YX2_find) 91 dX2_find_53 (by decide)) ?_ ?_
      · refine e1 (fun q0 => ?_)
        subst q0
        exact go_sub [0, 1, 2] rfl hx
      · refine im (go_aload_n (pc := 56) (Y := YX2_find) 0 dX2_find_56 rfl rfl) ?_
        refine flp (go_gR (pc := 57) (Y := YX2_find) fF1012 (by decide) q1649 (Or.inl rfl) dX2_find_57) (fun v11 => ?_)
        refine im (go_bipush (pc := 60) (Y := YX2_find) (v := 121) dX2_find_60 rfl) ?_
        refine im (go_bipush (pc := 62) (Y := YX2_find) (v := 8) dX2_find_62 rfl) ?_
        refine im (go_iload_n (pc := 64) (Y := YX2_find) 1 dX2_find_64 rfl rfl) ?_
        refine im (go_imul (pc := 65) (Y := YX2_find) dX2_find_65) ?_
        refine im (go_iadd (pc := 66) (Y := YX2_find) dX2_find_66) ?_
        refine im (go_iload_n (pc := 67) (Y := YX2_find) 3 dX2_find_67 rfl rfl) ?_
        refine im (go_iadd (pc := 68) (Y := YX2_find) dX2_find_68) ?_
        refine flp (go_lI1 (pc := 69) (Y := YX2_find) dX2_find_69) (fun v12 => ?_)
        refine im (go_aload_n (pc := 70) (Y := YX2_find) 0 dX2_find_70 rfl rfl) ?_
        refine flp (go_gR (pc := 71) (Y := YX2_find) fF1010 (by decide) q1645 (Or.inl rfl) dX2_find_71) (fun v13 => ?_)
        refine im (go_iload_n (pc := 74) (Y := YX2_find) 3 dX2_find_74 rfl rfl) ?_
        refine flp (go_lI1 (pc := 75) (Y := YX2_find) dX2_find_75) (fun v14 => ?_)
        refine bpg (fun v15 he16 h17 => ?_)
        have hj84 : Go G YX2_find s0 sE rE 84 [(0, rV (some this)), (1, iV i1), (3, iV v8)] [iV v15] s6 := by
          clear he16
          revert h17
          refine im (go_istore_n (pc := 84) (Y := YX2_find) (ls2 := [(2, iV v15), (0, rV (some this)), (1, iV i1), (3, iV v8)]) dX2_find_84 rfl (Nat.le_of_ble_eq_true rfl) rfl) ?_
          refine im (go_iinc (pc := 85) (Y := YX2_find) 3 (v := (v8 + 1)) (ls2 := [(3, iV (v8 + 1)), (2, iV v15), (0, rV (some this)), (1, iV i1)]) dX2_find_85 rfl rfl (Nat.le_of_ble_eq_true rfl) rfl) ?_
          refine im (go_goto (pc := 88) (Y := YX2_find) 44 dX2_find_88 (by decide)) ?_
          exact fun hq => go_sub [2, 3, 1, 0] rfl (ih _ _ _ hq hx)
        clear h17
        revert he16
        refine flp2 (go_icmp_ne (pc := 76) (Y := YX2_find) 83 dX2_find_76 (by decide)) ?_ ?_
        · refine im (go_iconst (pc := 79) (Y := YX2_find) (v := 1) dX2_find_79 rfl) ?_
          refine im (go_goto (pc := 80) (Y := YX2_find) 84 dX2_find_80 (by decide)) ?_
          refine e1 (fun q0 => ?_)
          subst q0
          exact go_sub [0, 1, 3] rfl hj84
        · refine im (go_iconst (pc := 83) (Y := YX2_find) (v := 0) dX2_find_83 rfl) ?_
          refine e1 (fun q0 => ?_)
          subst q0
          exact go_sub [0, 1, 3] rfl hj84
theorem sX2_find_L2_go {G : gG} {s0 : St} {vE : Int32} (s1 : St) (this : Nat) : ∀ (n : Nat) (v2 : Int32) (o : Int32 ⊕ (Unit)), sX2_find_L2 s1 this n v2 = some o → (∀ r, o = .inl r → r = vE) → (∀ (_ : Unit), o = .inr () → Go G YX2_find s0 s1 (some (iV vE)) 103 [] [] s1) → Go G YX2_find s0 s1 (some (iV vE)) 2 [(0, rV (some this)), (1, iV v2)] [] s1 := by
  intro n
  induction n with
  | zero => intro v2 o h hr hx; rw [sX2_find_L2] at h; cases h
  | succ n ih =>
    intro v2 o h hr hx
    revert h
    rw [sX2_find_L2]
    refine im (go_iload_n (pc := 2) (Y := YX2_find) 1 dX2_find_2 rfl rfl) ?_
    refine im (go_bipush (pc := 3) (Y := YX2_find) (v := 15) dX2_find_3 rfl) ?_
    refine flp2 (go_icmp_ge (pc := 5) (Y := YX2_find) 103 dX2_find_5 (by decide)) ?_ ?_
    · refine eor (fun hq => ?_)
      exact go_sub [] rfl (hx () hq)
    · refine im (go_aload_n (pc := 8) (Y := YX2_find) 0 dX2_find_8 rfl rfl) ?_
      refine flp (go_gR (pc := 9) (Y := YX2_find) fF1012 (by decide) q1649 (Or.inl rfl) dX2_find_9) (fun v3 => ?_)
      refine im (go_bipush (pc := 12) (Y := YX2_find) (v := 106) dX2_find_12 rfl) ?_
      refine im (go_iload_n (pc := 14) (Y := YX2_find) 1 dX2_find_14 rfl rfl) ?_
      refine im (go_iadd (pc := 15) (Y := YX2_find) dX2_find_15) ?_
      refine flp (go_lI1 (pc := 16) (Y := YX2_find) dX2_find_16) (fun v4 => ?_)
      refine bpg (fun v5 he24 h25 => ?_)
      have hj41 : Go G YX2_find s0 s1 (some (iV vE)) 41 [(0, rV (some this)), (1, iV v2)] [iV v5] s1 := by
        clear he24
        revert h25
        refine im (go_istore_n (pc := 41) (Y := YX2_find) (ls2 := [(2, iV v5), (0, rV (some this)), (1, iV v2)]) dX2_find_41 rfl (Nat.le_of_ble_eq_true rfl) rfl) ?_
        refine im (go_iconst (pc := 42) (Y := YX2_find) (v := 0) dX2_find_42 rfl) ?_
        refine im (go_istore_n (pc := 43) (Y := YX2_find) (ls2 := [(3, iV 0), (2, iV v5), (0, rV (some this)), (1, iV v2)]) dX2_find_43 rfl (Nat.le_of_ble_eq_true rfl) rfl) ?_
        refine bpg (fun v18 he19 h20 => ?_)
        refine go_sub [2, 3, 1, 0] rfl (sX2_find_L44_go s1 this v2 FU _ _ _ he19 ?_)
        clear he19
        revert h20
        refine im (go_iload_n (pc := 91) (Y := YX2_find) 2 dX2_find_91 rfl rfl) ?_
        refine flp2 (go_if_eq (pc := 92) (Y := YX2_find) 97 dX2_find_92 (by decide)) ?_ ?_
        · refine im (go_iinc (pc := 97) (Y := YX2_find) 1 (v := (v2 + 1)) (ls2 := [(1, iV (v2 + 1)), (0, rV (some this)), (2, iV v18)]) dX2_find_97 rfl rfl (Nat.le_of_ble_eq_true rfl) rfl) ?_
          refine im (go_goto (pc := 100) (Y := YX2_find) 2 dX2_find_100 (by decide)) ?_
          exact fun hq => go_sub [1, 0] rfl (ih _ _ hq hr hx)
        · refine im (go_iload_n (pc := 95) (Y := YX2_find) 1 dX2_find_95 rfl rfl) ?_
          refine eor (fun hq => ?_)
          have hq2 := hr _ hq
          subst hq2
          exact go_iret (pc := 96) (Y := YX2_find) rfl dX2_find_96
      clear h25
      revert he24
      refine flp2 (go_if_le (pc := 17) (Y := YX2_find) 40 dX2_find_17 (by decide)) ?_ ?_
      · refine im (go_iconst (pc := 40) (Y := YX2_find) (v := 0) dX2_find_40 rfl) ?_
        refine e1 (fun q0 => ?_)
        subst q0
        exact go_sub [0, 1] rfl hj41
      · refine im (go_aload_n (pc := 20) (Y := YX2_find) 0 dX2_find_20 rfl rfl) ?_
        refine flp (go_gR (pc := 21) (Y := YX2_find) fF1012 (by decide) q1649 (Or.inl rfl) dX2_find_21) (fun v21 => ?_)
        refine im (go_bipush (pc := 24) (Y := YX2_find) (v := 106) dX2_find_24 rfl) ?_
        refine im (go_iload_n (pc := 26) (Y := YX2_find) 1 dX2_find_26 rfl rfl) ?_
        refine im (go_iadd (pc := 27) (Y := YX2_find) dX2_find_27) ?_
        refine flp (go_lI1 (pc := 28) (Y := YX2_find) dX2_find_28) (fun v22 => ?_)
        refine im (go_aload_n (pc := 29) (Y := YX2_find) 0 dX2_find_29 rfl rfl) ?_
        refine flp (go_gI (pc := 30) (Y := YX2_find) fF26 (by decide) q1641 (Or.inl rfl) dX2_find_30) (fun v23 => ?_)
        refine flp2 (go_icmp_ne (pc := 33) (Y := YX2_find) 40 dX2_find_33 (by decide)) ?_ ?_
        · refine im (go_iconst (pc := 36) (Y := YX2_find) (v := 1) dX2_find_36 rfl) ?_
          refine im (go_goto (pc := 37) (Y := YX2_find) 41 dX2_find_37 (by decide)) ?_
          refine e1 (fun q0 => ?_)
          subst q0
          exact go_sub [0, 1] rfl hj41
        · refine im (go_iconst (pc := 40) (Y := YX2_find) (v := 0) dX2_find_40 rfl) ?_
          refine e1 (fun q0 => ?_)
          subst q0
          exact go_sub [0, 1] rfl hj41
theorem mX2_find {G : gG} (s0 : St) {this : Nat} {vE : Int32} (h : sX2_find s0 this = some vE) : Mt G YX2_find yX2_find [rV (some this)] s0 (some (iV vE)) s0 := by
  refine go_start (ls0 := [(0, rV (some this))]) (by decide +kernel) rfl (fun h => by cases h) (Nat.le_of_ble_eq_true rfl) rfl ?_
  revert h
  unfold sX2_find
  refine im (go_iconst (pc := 0) (Y := YX2_find) (v := 0) dX2_find_0 rfl) ?_
  refine im (go_istore_n (pc := 1) (Y := YX2_find) (ls2 := [(1, iV 0), (0, rV (some this))]) dX2_find_1 rfl (Nat.le_of_ble_eq_true rfl) rfl) ?_
  refine lcg (fun o29 he26 h27 => ?_)
  refine go_sub [1, 0] rfl (sX2_find_L2_go s0 this FU _ _ he26 h27.1 (fun _ hq => ?_))
  have hw := h27.2 () hq
  clear he26
  revert hw
  refine im (go_iconst (pc := 103) (Y := YX2_find) (v := -1) dX2_find_103 rfl) ?_
  refine e1 (fun q0 => ?_)
  subst q0
  exact go_iret (pc := 104) (Y := YX2_find) rfl dX2_find_104
abbrev YX2_newName : mY := (RX2, cX2_newName, 3, (Option.none : Option Jvm.ClassFile.FieldType), 6, 128, false)
theorem YOK_X2_newName : YOK yX2_newName 1 := ⟨⟨by decide +kernel, by decide +kernel⟩, by decide +kernel⟩
theorem sX2_newName_L45_go {G : gG} {s0 sE : St} {rE : Option V3} (this : Nat) (i1 : Int32) : ∀ (n : Nat) (s8 : St) (v9 : Int32) (s10 : St), sX2_newName_L45 this i1 n s8 v9 = some s10 → Go G YX2_newName s0 sE rE 79 [(0, rV (some this)), (1, iV i1)] [] s10 → Go G YX2_newName s0 sE rE 45 [(0, rV (some this)), (1, iV i1), (2, iV v9)] [] s8 := by
  intro n
  induction n with
  | zero => intro s8 v9 s10 h hx; rw [sX2_newName_L45] at h; cases h
  | succ n ih =>
    intro s8 v9 s10 h hx
    revert h
    rw [sX2_newName_L45]
    refine im (go_iload_n (pc := 45) (Y := YX2_newName) 2 dX2_newName_45 rfl rfl) ?_
    refine im (go_aload_n (pc := 46) (Y := YX2_newName) 0 dX2_newName_46 rfl rfl) ?_
    refine flp (go_gI (pc := 47) (Y := YX2_newName) fF26 (by decide) q1641 (Or.inl rfl) dX2_newName_47) (fun v11 => ?_)
    refine flp2 (go_icmp_ge (pc := 50) (Y := YX2_newName) 79 dX2_newName_50 (by decide)) ?_ ?_
    · refine e1 (fun q0 => ?_)
      subst q0
      exact go_sub [0, 1] rfl hx
    · refine im (go_aload_n (pc := 53) (Y := YX2_newName) 0 dX2_newName_53 rfl rfl) ?_
      refine flp (go_gR (pc := 54) (Y := YX2_newName) fF1012 (by decide) q1649 (Or.inl rfl) dX2_newName_54) (fun v12 => ?_)
      refine im (go_bipush (pc := 57) (Y := YX2_newName) (v := 121) dX2_newName_57 rfl) ?_
      refine im (go_bipush (pc := 59) (Y := YX2_newName) (v := 8) dX2_newName_59 rfl) ?_
      refine im (go_iload_n (pc := 61) (Y := YX2_newName) 1 dX2_newName_61 rfl rfl) ?_
      refine im (go_imul (pc := 62) (Y := YX2_newName) dX2_newName_62) ?_
      refine im (go_iadd (pc := 63) (Y := YX2_newName) dX2_newName_63) ?_
      refine im (go_iload_n (pc := 64) (Y := YX2_newName) 2 dX2_newName_64 rfl rfl) ?_
      refine im (go_iadd (pc := 65) (Y := YX2_newName) dX2_newName_65) ?_
      refine im (go_aload_n (pc := 66) (Y := YX2_newName) 0 dX2_newName_66 rfl rfl) ?_
      refine flp (go_gR (pc := 67) (Y := YX2_newName) fF1010 (by decide) q1645 (Or.inl rfl) dX2_newName_67) (fun v13 => ?_)
      refine im (go_iload_n (pc := 70) (Y := YX2_newName) 2 dX2_newName_70 rfl rfl) ?_
      refine flp (go_lI1 (pc := 71) (Y := YX2_newName) dX2_newName_71) (fun v14 => ?_)
      refine flp (go_tI (pc := 72) (Y := YX2_newName) dX2_newName_72) (fun s15 => ?_)
      refine im (go_iinc (pc := 73) (Y := YX2_newName) 2 (v := (v9 + 1)) (ls2 := [(2, iV (v9 + 1)), (0, rV (some this)), (1, iV i1)]) dX2_newName_73 rfl rfl (Nat.le_of_ble_eq_true rfl) rfl) ?_
      refine im (go_goto (pc := 76) (Y := YX2_newName) 45 dX2_newName_76 (by decide)) ?_
      exact fun hq => go_sub [1, 2, 0] rfl (ih _ _ _ hq hx)
theorem mX2_newName {G : gG} (s0 : St) {this : Nat} {p0 : Int32} {sE : St} (h : sX2_newName s0 this p0 = some sE) : Mt G YX2_newName yX2_newName [rV (some this), iV p0] s0 none sE := by
  refine go_start (ls0 := [(0, rV (some this)), (1, iV p0)]) (by decide +kernel) rfl (fun h => by cases h) (Nat.le_of_ble_eq_true rfl) rfl ?_
  revert h
  unfold sX2_newName
  refine im (go_aload_n (pc := 0) (Y := YX2_newName) 0 dX2_newName_0 rfl rfl) ?_
  refine flp (go_gI (pc := 1) (Y := YX2_newName) fF30 (by decide) q1646 (Or.inl rfl) dX2_newName_1) (fun v1 => ?_)
  refine flp2 (go_if_eq (pc := 4) (Y := YX2_newName) 8 dX2_newName_4 (by decide)) ?_ ?_
  · refine im (go_aload_n (pc := 8) (Y := YX2_newName) 0 dX2_newName_8 rfl rfl) ?_
    refine kdg (fun k2 => ?_)
    refine bpg (fun s3 he4 => ?_)
    refine im (go_callV (pc := 9) (Y := YX2_newName) (Yc := YX2_mustName) (y := yX2_mustName) (n := 0) (c0 := 2) (q := (RX2, TX2, 37)) this [] [] rfl rfl k2 (mX2_mustName s0 he4) YOK_X2_mustName rfl q1859 q133 q1858 qs83 q1856 (Nat.le_of_ble_eq_true rfl) (Nat.le_of_ble_eq_true rfl) (Nat.le_of_ble_eq_true rfl) dX2_newName_9 (st2 := []) rfl) ?_
    clear he4
    refine im (go_aload_n (pc := 12) (Y := YX2_newName) 0 dX2_newName_12 rfl rfl) ?_
    refine flp (go_gI (pc := 13) (Y := YX2_newName) fF30 (by decide) q1646 (Or.inl rfl) dX2_newName_13) (fun v5 => ?_)
    refine bpg (fun s6 he32 h33 => ?_)
    have hj35 : Go G YX2_newName s0 sE none 35 [(0, rV (some this)), (1, iV p0)] [] s6 := by
      clear he32
      revert h33
      refine im (go_aload_n (pc := 35) (Y := YX2_newName) 0 dX2_newName_35 rfl rfl) ?_
      refine flp (go_gI (pc := 36) (Y := YX2_newName) fF30 (by decide) q1646 (Or.inl rfl) dX2_newName_36) (fun v7 => ?_)
      refine flp2 (go_if_eq (pc := 39) (Y := YX2_newName) 43 dX2_newName_39 (by decide)) ?_ ?_
      · refine im (go_iconst (pc := 43) (Y := YX2_newName) (v := 0) dX2_newName_43 rfl) ?_
        refine im (go_istore_n (pc := 44) (Y := YX2_newName) (ls2 := [(2, iV 0), (0, rV (some this)), (1, iV p0)]) dX2_newName_44 rfl (Nat.le_of_ble_eq_true rfl) rfl) ?_
        refine bpg (fun s16 he23 h24 => ?_)
        refine go_sub [1, 2, 0] rfl (sX2_newName_L45_go this p0 FU _ _ _ he23 ?_)
        clear he23
        revert h24
        refine im (go_aload_n (pc := 79) (Y := YX2_newName) 0 dX2_newName_79 rfl rfl) ?_
        refine flp (go_gR (pc := 80) (Y := YX2_newName) fF1012 (by decide) q1649 (Or.inl rfl) dX2_newName_80) (fun v17 => ?_)
        refine im (go_bipush (pc := 83) (Y := YX2_newName) (v := 106) dX2_newName_83 rfl) ?_
        refine im (go_iload_n (pc := 85) (Y := YX2_newName) 1 dX2_newName_85 rfl rfl) ?_
        refine im (go_iadd (pc := 86) (Y := YX2_newName) dX2_newName_86) ?_
        refine im (go_aload_n (pc := 87) (Y := YX2_newName) 0 dX2_newName_87 rfl rfl) ?_
        refine flp (go_gI (pc := 88) (Y := YX2_newName) fF26 (by decide) q1641 (Or.inl rfl) dX2_newName_88) (fun v18 => ?_)
        refine flp (go_tI (pc := 91) (Y := YX2_newName) dX2_newName_91) (fun s19 => ?_)
        refine im (go_aload_n (pc := 92) (Y := YX2_newName) 0 dX2_newName_92 rfl rfl) ?_
        refine kdg (fun k20 => ?_)
        refine bpg (fun s21 he22 => ?_)
        refine im (go_callV (pc := 93) (Y := YX2_newName) (Yc := YX2_next) (y := yX2_next) (n := 0) (c0 := 2) (q := (RX2, TX2, 37)) this [] [] rfl rfl k20 (mX2_next s19 he22) YOK_X2_next rfl q1771 q133 q1770 qs68 q1768 (Nat.le_of_ble_eq_true rfl) (Nat.le_of_ble_eq_true rfl) (Nat.le_of_ble_eq_true rfl) dX2_newName_93 (st2 := []) rfl) ?_
        clear he22
        refine e1 (fun q0 => ?_)
        subst q0
        exact go_vret (pc := 96) (Y := YX2_newName) rfl dX2_newName_96
      · refine e1 (fun q0 => ?_)
        subst q0
        exact go_vret (pc := 42) (Y := YX2_newName) rfl dX2_newName_42
    clear h33
    revert he32
    refine flp2 (go_if_ne (pc := 16) (Y := YX2_newName) 35 dX2_newName_16 (by decide)) ?_ ?_
    · refine im (go_aload_n (pc := 19) (Y := YX2_newName) 0 dX2_newName_19 rfl rfl) ?_
      refine kdg (fun k25 => ?_)
      refine bpg (fun v26 he27 => ?_)
      refine im (go_callV (pc := 20) (Y := YX2_newName) (Yc := YX2_find) (y := yX2_find) (n := 0) (c0 := 2) (q := (RX2, TX2, 37)) this [] [] rfl rfl k25 (mX2_find s3 he27) YOK_X2_find rfl q1870 q133 q1869 qs84 q1867 (Nat.le_of_ble_eq_true rfl) (Nat.le_of_ble_eq_true rfl) (Nat.le_of_ble_eq_true rfl) dX2_newName_20 (st2 := [iV v26]) rfl) ?_
      clear he27
      refine flp2 (go_if_lt (pc := 23) (Y := YX2_newName) 35 dX2_newName_23 (by decide)) ?_ ?_
      · refine e1 (fun q0 => ?_)
        subst q0
        exact go_sub [0, 1] rfl hj35
      · refine im (go_aload_n (pc := 26) (Y := YX2_newName) 0 dX2_newName_26 rfl rfl) ?_
        refine im (go_iconst (pc := 27) (Y := YX2_newName) (v := 3) dX2_newName_27 rfl) ?_
        refine im (go_aload_n (pc := 28) (Y := YX2_newName) 0 dX2_newName_28 rfl rfl) ?_
        refine flp (go_gI (pc := 29) (Y := YX2_newName) fF22 (by decide) q1637 (Or.inl rfl) dX2_newName_29) (fun v28 => ?_)
        refine kdg (fun k29 => ?_)
        refine bpg (fun s30 he31 => ?_)
        refine im (go_callV (pc := 32) (Y := YX2_newName) (Yc := YX2_wrong) (y := yX2_wrong) (n := 2) (c0 := 2) (q := (RX2, TX2, 37)) this [iV 3, iV v28] [] rfl rfl k29 (mX2_wrong s3 he31) YOK_X2_wrong rfl q1817 q133 q1816 qs73 q1814 (Nat.le_of_ble_eq_true rfl) (Nat.le_of_ble_eq_true rfl) (Nat.le_of_ble_eq_true rfl) dX2_newName_32 (st2 := []) rfl) ?_
        clear he31
        refine e1 (fun q0 => ?_)
        subst q0
        exact go_sub [0, 1] rfl hj35
    · refine e1 (fun q0 => ?_)
      subst q0
      exact go_sub [0, 1] rfl hj35
  · refine e1 (fun q0 => ?_)
    subst q0
    exact go_vret (pc := 7) (Y := YX2_newName) rfl dX2_newName_7
abbrev YX2_placeLine : mY := (RX2, cX2_placeLine, 1, (Option.none : Option Jvm.ClassFile.FieldType), 7, 150, false)
theorem YOK_X2_placeLine : YOK yX2_placeLine 0 := ⟨⟨by decide +kernel, by decide +kernel⟩, by decide +kernel⟩
theorem mX2_placeLine {G : gG} (s0 : St) {this : Nat} {sE : St} (h : sX2_placeLine s0 this = some sE) : Mt G YX2_placeLine yX2_placeLine [rV (some this)] s0 none sE := by
  refine go_start (ls0 := [(0, rV (some this))]) (by decide +kernel) rfl (fun h => by cases h) (Nat.le_of_ble_eq_true rfl) rfl ?_
  revert h
  unfold sX2_placeLine
  refine im (go_aload_n (pc := 0) (Y := YX2_placeLine) 0 dX2_placeLine_0 rfl rfl) ?_
  refine flp (go_gI (pc := 1) (Y := YX2_placeLine) fF30 (by decide) q1646 (Or.inl rfl) dX2_placeLine_1) (fun v1 => ?_)
  refine flp2 (go_if_eq (pc := 4) (Y := YX2_placeLine) 8 dX2_placeLine_4 (by decide)) ?_ ?_
  · refine im (go_aload_n (pc := 8) (Y := YX2_placeLine) 0 dX2_placeLine_8 rfl rfl) ?_
    refine im (go_aload_n (pc := 9) (Y := YX2_placeLine) 0 dX2_placeLine_9 rfl rfl) ?_
    refine flp (go_gR (pc := 10) (Y := YX2_placeLine) fF1012 (by decide) q1649 (Or.inl rfl) dX2_placeLine_10) (fun v2 => ?_)
    refine im (go_iconst (pc := 13) (Y := YX2_placeLine) (v := 1) dX2_placeLine_13 rfl) ?_
    refine flp (go_lI1 (pc := 14) (Y := YX2_placeLine) dX2_placeLine_14) (fun v3 => ?_)
    refine kdg (fun k4 => ?_)
    refine bpg (fun s5 he6 => ?_)
    refine im (go_callV (pc := 15) (Y := YX2_placeLine) (Yc := YX2_newName) (y := yX2_newName) (n := 1) (c0 := 2) (q := (RX2, TX2, 37)) this [iV v3] [] rfl rfl k4 (mX2_newName s0 he6) YOK_X2_newName rfl q1855 q133 q1854 qs82 q1852 (Nat.le_of_ble_eq_true rfl) (Nat.le_of_ble_eq_true rfl) (Nat.le_of_ble_eq_true rfl) dX2_placeLine_15 (st2 := []) rfl) ?_
    clear he6
    refine im (go_aload_n (pc := 18) (Y := YX2_placeLine) 0 dX2_placeLine_18 rfl rfl) ?_
    refine flp (go_gI (pc := 19) (Y := YX2_placeLine) fF30 (by decide) q1646 (Or.inl rfl) dX2_placeLine_19) (fun v7 => ?_)
    refine flp2 (go_if_ne (pc := 22) (Y := YX2_placeLine) 35 dX2_placeLine_22 (by decide)) ?_ ?_
    · refine im (go_aload_n (pc := 25) (Y := YX2_placeLine) 0 dX2_placeLine_25 rfl rfl) ?_
      refine flp (go_gR (pc := 26) (Y := YX2_placeLine) fF1012 (by decide) q1649 (Or.inl rfl) dX2_placeLine_26) (fun v8 => ?_)
      refine im (go_iconst (pc := 29) (Y := YX2_placeLine) (v := 1) dX2_placeLine_29 rfl) ?_
      refine im (go_dup2 (pc := 30) (Y := YX2_placeLine) dX2_placeLine_30 rfl rfl) ?_
      refine flp (go_lI1 (pc := 31) (Y := YX2_placeLine) dX2_placeLine_31) (fun v9 => ?_)
      refine im (go_iconst (pc := 32) (Y := YX2_placeLine) (v := 1) dX2_placeLine_32 rfl) ?_
      refine im (go_iadd (pc := 33) (Y := YX2_placeLine) dX2_placeLine_33) ?_
      refine flp (go_tI (pc := 34) (Y := YX2_placeLine) dX2_placeLine_34) (fun s10 => ?_)
      refine e1 (fun q0 => ?_)
      subst q0
      exact go_vret (pc := 35) (Y := YX2_placeLine) rfl dX2_placeLine_35
    · refine e1 (fun q0 => ?_)
      subst q0
      exact go_vret (pc := 35) (Y := YX2_placeLine) rfl dX2_placeLine_35
  · refine e1 (fun q0 => ?_)
    subst q0
    exact go_vret (pc := 7) (Y := YX2_placeLine) rfl dX2_placeLine_7
abbrev YX2_named : mY := (RX2, cX2_named, 4, (Option.some .int), 6, 128, false)
theorem YOK_X2_named : YOK yX2_named 2 := ⟨⟨by decide +kernel, by decide +kernel⟩, by decide +kernel⟩
theorem mX2_named {G : gG} (s0 : St) {this : Nat} {p0 : Int32} {p1 : Int32} {sE : St} {vE : Int32} (h : sX2_named s0 this p0 p1 = some (sE, vE)) : Mt G YX2_named yX2_named [rV (some this), iV p0, iV p1] s0 (some (iV vE)) sE := by
  refine go_start (ls0 := [(0, rV (some this)), (1, iV p0), (2, iV p1)]) (by decide +kernel) rfl (fun h => by cases h) (Nat.le_of_ble_eq_true rfl) rfl ?_
  revert h
  unfold sX2_named
  refine im (go_aload_n (pc := 0) (Y := YX2_named) 0 dX2_named_0 rfl rfl) ?_
  refine flp (go_gI (pc := 1) (Y := YX2_named) fF30 (by decide) q1646 (Or.inl rfl) dX2_named_1) (fun v1 => ?_)
  refine flp2 (go_if_eq (pc := 4) (Y := YX2_named) 9 dX2_named_4 (by decide)) ?_ ?_
  · refine im (go_aload_n (pc := 9) (Y := YX2_named) 0 dX2_named_9 rfl rfl) ?_
    refine kdg (fun k2 => ?_)
    refine bpg (fun s3 he4 => ?_)
    refine im (go_callV (pc := 10) (Y := YX2_named) (Yc := YX2_mustName) (y := yX2_mustName) (n := 0) (c0 := 2) (q := (RX2, TX2, 37)) this [] [] rfl rfl k2 (mX2_mustName s0 he4) YOK_X2_mustName rfl q1859 q133 q1858 qs83 q1856 (Nat.le_of_ble_eq_true rfl) (Nat.le_of_ble_eq_true rfl) (Nat.le_of_ble_eq_true rfl) dX2_named_10 (st2 := []) rfl) ?_
    clear he4
    refine im (go_aload_n (pc := 13) (Y := YX2_named) 0 dX2_named_13 rfl rfl) ?_
    refine flp (go_gI (pc := 14) (Y := YX2_named) fF30 (by decide) q1646 (Or.inl rfl) dX2_named_14) (fun v5 => ?_)
    refine flp2 (go_if_eq (pc := 17) (Y := YX2_named) 22 dX2_named_17 (by decide)) ?_ ?_
    · refine im (go_aload_n (pc := 22) (Y := YX2_named) 0 dX2_named_22 rfl rfl) ?_
      refine kdg (fun k6 => ?_)
      refine bpg (fun v7 he8 => ?_)
      refine im (go_callV (pc := 23) (Y := YX2_named) (Yc := YX2_find) (y := yX2_find) (n := 0) (c0 := 2) (q := (RX2, TX2, 37)) this [] [] rfl rfl k6 (mX2_find s3 he8) YOK_X2_find rfl q1870 q133 q1869 qs84 q1867 (Nat.le_of_ble_eq_true rfl) (Nat.le_of_ble_eq_true rfl) (Nat.le_of_ble_eq_true rfl) dX2_named_23 (st2 := [iV v7]) rfl) ?_
      clear he8
      refine im (go_istore_n (pc := 26) (Y := YX2_named) (ls2 := [(3, iV v7), (0, rV (some this)), (1, iV p0), (2, iV p1)]) dX2_named_26 rfl (Nat.le_of_ble_eq_true rfl) rfl) ?_
      refine im (go_iload_n (pc := 27) (Y := YX2_named) 0 dX2_named_27 rfl rfl) ?_
      refine im (go_iload_n (pc := 28) (Y := YX2_named) 2 dX2_named_28 rfl rfl) ?_
      refine im (go_iload_n (pc := 29) (Y := YX2_named) 3 dX2_named_29 rfl rfl) ?_
      refine bpg (fun v9 he10 => ?_)
      refine im (go_callS (pc := 30) (Y := YX2_named) (Yc := YX2_in) (y := yX2_in) (n := 3) [iV v7, iV p0, iV p1] [] rfl (mX2_in s3 he10) YOK_X2_in rfl q1763 q133 q1762 q1761 (Nat.le_of_ble_eq_true rfl) (Nat.le_of_ble_eq_true rfl) (Nat.le_of_ble_eq_true rfl) dX2_named_30 (st2 := [iV v9]) rfl) ?_
      clear he10
      refine bpg (fun s11 he17 h18 => ?_)
      have hj45 : Go G YX2_named s0 sE (some (iV vE)) 45 [(0, rV (some this)), (1, iV p0), (3, iV v7)] [] s11 := by
        clear he17
        revert h18
        refine im (go_aload_n (pc := 45) (Y := YX2_named) 0 dX2_named_45 rfl rfl) ?_
        refine flp (go_gI (pc := 46) (Y := YX2_named) fF30 (by decide) q1646 (Or.inl rfl) dX2_named_46) (fun v12 => ?_)
        refine flp2 (go_if_eq (pc := 49) (Y := YX2_named) 56 dX2_named_49 (by decide)) ?_ ?_
        · refine im (go_iload_n (pc := 56) (Y := YX2_named) 2 dX2_named_56 rfl rfl) ?_
          refine im (go_iload_n (pc := 57) (Y := YX2_named) 1 dX2_named_57 rfl rfl) ?_
          refine im (go_isub (pc := 58) (Y := YX2_named) dX2_named_58) ?_
          refine e2 (fun q0 q1 => ?_)
          subst q0
          subst q1
          exact go_iret (pc := 59) (Y := YX2_named) rfl dX2_named_59
        · refine im (go_iconst (pc := 52) (Y := YX2_named) (v := 0) dX2_named_52 rfl) ?_
          refine im (go_goto (pc := 53) (Y := YX2_named) 59 dX2_named_53 (by decide)) ?_
          refine e2 (fun q0 q1 => ?_)
          subst q0
          subst q1
          exact go_iret (pc := 59) (Y := YX2_named) rfl dX2_named_59
      clear h18
      revert he17
      refine flp2 (go_if_ne (pc := 33) (Y := YX2_named) 45 dX2_named_33 (by decide)) ?_ ?_
      · refine im (go_aload_n (pc := 36) (Y := YX2_named) 1 dX2_named_36 rfl rfl) ?_
        refine im (go_iconst (pc := 37) (Y := YX2_named) (v := 2) dX2_named_37 rfl) ?_
        refine im (go_aload_n (pc := 38) (Y := YX2_named) 1 dX2_named_38 rfl rfl) ?_
        refine flp (go_gI (pc := 39) (Y := YX2_named) fF22 (by decide) q1637 (Or.inl rfl) dX2_named_39) (fun v13 => ?_)
        refine kdg (fun k14 => ?_)
        refine bpg (fun s15 he16 => ?_)
        refine im (go_callV (pc := 42) (Y := YX2_named) (Yc := YX2_wrong) (y := yX2_wrong) (n := 2) (c0 := 2) (q := (RX2, TX2, 37)) this [iV 2, iV v13] [] rfl rfl k14 (mX2_wrong s3 he16) YOK_X2_wrong rfl q1817 q133 q1816 qs73 q1814 (Nat.le_of_ble_eq_true rfl) (Nat.le_of_ble_eq_true rfl) (Nat.le_of_ble_eq_true rfl) dX2_named_42 (st2 := []) rfl) ?_
        clear he16
        refine e1 (fun q0 => ?_)
        subst q0
        exact go_sub [1, 2, 0] rfl hj45
      · refine e1 (fun q0 => ?_)
        subst q0
        exact go_sub [1, 2, 0] rfl hj45
    · refine im (go_iconst (pc := 20) (Y := YX2_named) (v := 0) dX2_named_20 rfl) ?_
      refine e2 (fun q0 q1 => ?_)
      subst q0
      subst q1
      exact go_iret (pc := 21) (Y := YX2_named) rfl dX2_named_21
  · refine im (go_iconst (pc := 7) (Y := YX2_named) (v := 0) dX2_named_7 rfl) ?_
    refine e2 (fun q0 q1 => ?_)
    subst q0
    subst q1
    exact go_iret (pc := 8) (Y := YX2_named) rfl dX2_named_8
abbrev YX2_placeHere : mY := (RX2, cX2_placeHere, 1, (Option.some .int), 7, 151, false)
theorem YOK_X2_placeHere : YOK yX2_placeHere 0 := ⟨⟨by decide +kernel, by decide +kernel⟩, by decide +kernel⟩
theorem mX2_placeHere {G : gG} (s0 : St) {this : Nat} {sE : St} {vE : Int32} (h : sX2_placeHere s0 this = some (sE, vE)) : Mt G YX2_placeHere yX2_placeHere [rV (some this)] s0 (some (iV vE)) sE := by
  refine go_start (ls0 := [(0, rV (some this))]) (by decide +kernel) rfl (fun h => by cases h) (Nat.le_of_ble_eq_true rfl) rfl ?_
  revert h
  unfold sX2_placeHere
  refine im (go_aload_n (pc := 0) (Y := YX2_placeHere) 0 dX2_placeHere_0 rfl rfl) ?_
  refine im (go_iconst (pc := 1) (Y := YX2_placeHere) (v := 0) dX2_placeHere_1 rfl) ?_
  refine im (go_iconst (pc := 2) (Y := YX2_placeHere) (v := 5) dX2_placeHere_2 rfl) ?_
  refine kdg (fun k1 => ?_)
  refine bdg (fun s2 v3 he4 => ?_)
  refine im (go_callV (pc := 3) (Y := YX2_placeHere) (Yc := YX2_named) (y := yX2_named) (n := 2) (c0 := 2) (q := (RX2, TX2, 37)) this [iV 0, iV 5] [] rfl rfl k1 (mX2_named s0 he4) YOK_X2_named rfl q1886 q133 q1885 qs88 q1883 (Nat.le_of_ble_eq_true rfl) (Nat.le_of_ble_eq_true rfl) (Nat.le_of_ble_eq_true rfl) dX2_placeHere_3 (st2 := [iV v3]) rfl) ?_
  clear he4
  refine e2 (fun q0 q1 => ?_)
  subst q0
  subst q1
  exact go_iret (pc := 6) (Y := YX2_placeHere) rfl dX2_placeHere_6
abbrev YX2_placePassed : mY := (RX2, cX2_placePassed, 2, (Option.some .int), 8, 171, false)
theorem YOK_X2_placePassed : YOK yX2_placePassed 0 := ⟨⟨by decide +kernel, by decide +kernel⟩, by decide +kernel⟩
theorem mX2_placePassed {G : gG} (s0 : St) {this : Nat} {sE : St} {vE : Int32} (h : sX2_placePassed s0 this = some (sE, vE)) : Mt G YX2_placePassed yX2_placePassed [rV (some this)] s0 (some (iV vE)) sE := by
  refine go_start (ls0 := [(0, rV (some this))]) (by decide +kernel) rfl (fun h => by cases h) (Nat.le_of_ble_eq_true rfl) rfl ?_
  revert h
  unfold sX2_placePassed
  refine im (go_aload_n (pc := 0) (Y := YX2_placePassed) 0 dX2_placePassed_0 rfl rfl) ?_
  refine kdg (fun k1 => ?_)
  refine bdg (fun s2 v3 he4 => ?_)
  refine im (go_callV (pc := 1) (Y := YX2_placePassed) (Yc := YX2_placeHere) (y := yX2_placeHere) (n := 0) (c0 := 2) (q := (RX2, TX2, 37)) this [] [] rfl rfl k1 (mX2_placeHere s0 he4) YOK_X2_placeHere rfl q1882 q133 q1881 qs87 q1879 (Nat.le_of_ble_eq_true rfl) (Nat.le_of_ble_eq_true rfl) (Nat.le_of_ble_eq_true rfl) dX2_placePassed_1 (st2 := [iV v3]) rfl) ?_
  clear he4
  refine im (go_istore_n (pc := 4) (Y := YX2_placePassed) (ls2 := [(1, iV v3), (0, rV (some this))]) dX2_placePassed_4 rfl (Nat.le_of_ble_eq_true rfl) rfl) ?_
  refine im (go_aload_n (pc := 5) (Y := YX2_placePassed) 1 dX2_placePassed_5 rfl rfl) ?_
  refine kdg (fun k5 => ?_)
  refine bpg (fun s6 he7 => ?_)
  refine im (go_callV (pc := 6) (Y := YX2_placePassed) (Yc := YX2_pass) (y := yX2_pass) (n := 0) (c0 := 2) (q := (RX2, TX2, 37)) this [] [] rfl rfl k5 (mX2_pass s2 he7) YOK_X2_pass rfl q1842 q133 q1841 qs79 q1839 (Nat.le_of_ble_eq_true rfl) (Nat.le_of_ble_eq_true rfl) (Nat.le_of_ble_eq_true rfl) dX2_placePassed_6 (st2 := []) rfl) ?_
  clear he7
  refine im (go_iload_n (pc := 9) (Y := YX2_placePassed) 0 dX2_placePassed_9 rfl rfl) ?_
  refine e2 (fun q0 q1 => ?_)
  subst q0
  subst q1
  exact go_iret (pc := 10) (Y := YX2_placePassed) rfl dX2_placePassed_10
abbrev YX2_seesLine : mY := (RX2, cX2_seesLine, 6, (Option.none : Option Jvm.ClassFile.FieldType), 9, 192, false)
theorem YOK_X2_seesLine : YOK yX2_seesLine 0 := ⟨⟨by decide +kernel, by decide +kernel⟩, by decide +kernel⟩
theorem sX2_seesLine_L45_go {G : gG} {s0 sE : St} {rE : Option V3} (s13 : St) (this : Nat) (i1 : Int32) (i2 : Int32) (i3 : Int32) : ∀ (n : Nat) (v14 : Int32) (v15 : Int32) (v16 : Int32), sX2_seesLine_L45 s13 this i2 i3 n v14 v15 = some v16 → Go G YX2_seesLine s0 sE rE 108 [(0, rV (some this)), (1, iV i1), (2, iV i2), (3, iV i3), (4, iV v16)] [] s13 → Go G YX2_seesLine s0 sE rE 45 [(0, rV (some this)), (1, iV i1), (2, iV i2), (3, iV i3), (4, iV v14), (5, iV v15)] [] s13 := by
  intro n
  induction n with
  | zero => intro v14 v15 v16 h hx; rw [sX2_seesLine_L45] at h; cases h
  | succ n ih =>
    intro v14 v15 v16 h hx
    revert h
    rw [sX2_seesLine_L45]
    refine im (go_iload (pc := 45) (Y := YX2_seesLine) 5 dX2_seesLine_45 rfl) ?_
    refine im (go_aload_n (pc := 47) (Y := YX2_seesLine) 0 dX2_seesLine_47 rfl rfl) ?_
    refine flp (go_gR (pc := 48) (Y := YX2_seesLine) fF1012 (by decide) q1649 (Or.inl rfl) dX2_seesLine_48) (fun v17 => ?_)
    refine im (go_iconst (pc := 51) (Y := YX2_seesLine) (v := 2) dX2_seesLine_51 rfl) ?_
    refine flp (go_lI1 (pc := 52) (Y := YX2_seesLine) dX2_seesLine_52) (fun v18 => ?_)
    refine flp2 (go_icmp_ge (pc := 53) (Y := YX2_seesLine) 108 dX2_seesLine_53 (by decide)) ?_ ?_
    · refine e1 (fun q0 => ?_)
      subst q0
      exact go_sub [0, 1, 2, 3, 4] rfl hx
    · refine im (go_iload (pc := 56) (Y := YX2_seesLine) 4 dX2_seesLine_56 rfl) ?_
      refine bpg (fun v19 he24 h25 => ?_)
      have hj100 : Go G YX2_seesLine s0 sE rE 100 [(0, rV (some this)), (1, iV i1), (2, iV i2), (3, iV i3), (5, iV v15)] [iV v19] s13 := by
        clear he24
        revert h25
        refine im (go_istore (pc := 100) (Y := YX2_seesLine) (ls2 := [(4, iV v19), (0, rV (some this)), (1, iV i1), (2, iV i2), (3, iV i3), (5, iV v15)]) dX2_seesLine_100 (Nat.le_of_ble_eq_true rfl) rfl) ?_
        refine im (go_iinc (pc := 102) (Y := YX2_seesLine) 5 (v := (v15 + 1)) (ls2 := [(5, iV (v15 + 1)), (4, iV v19), (0, rV (some this)), (1, iV i1), (2, iV i2), (3, iV i3)]) dX2_seesLine_102 rfl rfl (Nat.le_of_ble_eq_true rfl) rfl) ?_
        refine im (go_goto (pc := 105) (Y := YX2_seesLine) 45 dX2_seesLine_105 (by decide)) ?_
        exact fun hq => go_sub [2, 3, 4, 5, 1, 0] rfl (ih _ _ _ hq hx)
      clear h25
      revert he24
      refine flp2 (go_if_ne (pc := 58) (Y := YX2_seesLine) 95 dX2_seesLine_58 (by decide)) ?_ ?_
      · refine im (go_aload_n (pc := 61) (Y := YX2_seesLine) 0 dX2_seesLine_61 rfl rfl) ?_
        refine flp (go_gR (pc := 62) (Y := YX2_seesLine) fF1012 (by decide) q1649 (Or.inl rfl) dX2_seesLine_62) (fun v20 => ?_)
        refine im (go_bipush (pc := 65) (Y := YX2_seesLine) (v := 10) dX2_seesLine_65 rfl) ?_
        refine im (go_iconst (pc := 67) (Y := YX2_seesLine) (v := 2) dX2_seesLine_67 rfl) ?_
        refine im (go_iload (pc := 68) (Y := YX2_seesLine) 5 dX2_seesLine_68 rfl) ?_
        refine im (go_imul (pc := 70) (Y := YX2_seesLine) dX2_seesLine_70) ?_
        refine im (go_iadd (pc := 71) (Y := YX2_seesLine) dX2_seesLine_71) ?_
        refine flp (go_lI1 (pc := 72) (Y := YX2_seesLine) dX2_seesLine_72) (fun v21 => ?_)
        refine im (go_iload_n (pc := 73) (Y := YX2_seesLine) 2 dX2_seesLine_73 rfl rfl) ?_
        refine flp2 (go_icmp_ne (pc := 74) (Y := YX2_seesLine) 99 dX2_seesLine_74 (by decide)) ?_ ?_
        · refine im (go_aload_n (pc := 77) (Y := YX2_seesLine) 0 dX2_seesLine_77 rfl rfl) ?_
          refine flp (go_gR (pc := 78) (Y := YX2_seesLine) fF1012 (by decide) q1649 (Or.inl rfl) dX2_seesLine_78) (fun v22 => ?_)
          refine im (go_bipush (pc := 81) (Y := YX2_seesLine) (v := 10) dX2_seesLine_81 rfl) ?_
          refine im (go_iconst (pc := 83) (Y := YX2_seesLine) (v := 2) dX2_seesLine_83 rfl) ?_
          refine im (go_iload (pc := 84) (Y := YX2_seesLine) 5 dX2_seesLine_84 rfl) ?_
          refine im (go_imul (pc := 86) (Y := YX2_seesLine) dX2_seesLine_86) ?_
          refine im (go_iadd (pc := 87) (Y := YX2_seesLine) dX2_seesLine_87) ?_
          refine im (go_iconst (pc := 88) (Y := YX2_seesLine) (v := 1) dX2_seesLine_88 rfl) ?_
          refine im (go_iadd (pc := 89) (Y := YX2_seesLine) dX2_seesLine_89) ?_
          refine flp (go_lI1 (pc := 90) (Y := YX2_seesLine) dX2_seesLine_90) (fun v23 => ?_)
          refine im (go_iload_n (pc := 91) (Y := YX2_seesLine) 3 dX2_seesLine_91 rfl rfl) ?_
          refine flp2 (go_icmp_ne (pc := 92) (Y := YX2_seesLine) 99 dX2_seesLine_92 (by decide)) ?_ ?_
          · refine im (go_iconst (pc := 95) (Y := YX2_seesLine) (v := 1) dX2_seesLine_95 rfl) ?_
            refine im (go_goto (pc := 96) (Y := YX2_seesLine) 100 dX2_seesLine_96 (by decide)) ?_
            refine e1 (fun q0 => ?_)
            subst q0
            exact go_sub [0, 1, 2, 3, 5] rfl hj100
          · refine im (go_iconst (pc := 99) (Y := YX2_seesLine) (v := 0) dX2_seesLine_99 rfl) ?_
            refine e1 (fun q0 => ?_)
            subst q0
            exact go_sub [0, 1, 2, 3, 5] rfl hj100
        · refine im (go_iconst (pc := 99) (Y := YX2_seesLine) (v := 0) dX2_seesLine_99 rfl) ?_
          refine e1 (fun q0 => ?_)
          subst q0
          exact go_sub [0, 1, 2, 3, 5] rfl hj100
      · refine im (go_iconst (pc := 95) (Y := YX2_seesLine) (v := 1) dX2_seesLine_95 rfl) ?_
        refine im (go_goto (pc := 96) (Y := YX2_seesLine) 100 dX2_seesLine_96 (by decide)) ?_
        refine e1 (fun q0 => ?_)
        subst q0
        exact go_sub [0, 1, 2, 3, 5] rfl hj100
theorem mX2_seesLine {G : gG} (s0 : St) {this : Nat} {sE : St} (h : sX2_seesLine s0 this = some sE) : Mt G YX2_seesLine yX2_seesLine [rV (some this)] s0 none sE := by
  refine go_start (ls0 := [(0, rV (some this))]) (by decide +kernel) rfl (fun h => by cases h) (Nat.le_of_ble_eq_true rfl) rfl ?_
  revert h
  unfold sX2_seesLine
  refine im (go_aload_n (pc := 0) (Y := YX2_seesLine) 0 dX2_seesLine_0 rfl rfl) ?_
  refine flp (go_gI (pc := 1) (Y := YX2_seesLine) fF30 (by decide) q1646 (Or.inl rfl) dX2_seesLine_1) (fun v1 => ?_)
  refine flp2 (go_if_eq (pc := 4) (Y := YX2_seesLine) 8 dX2_seesLine_4 (by decide)) ?_ ?_
  · refine im (go_bipush (pc := 8) (Y := YX2_seesLine) (v := 10) dX2_seesLine_8 rfl) ?_
    refine im (go_iconst (pc := 10) (Y := YX2_seesLine) (v := 2) dX2_seesLine_10 rfl) ?_
    refine im (go_aload_n (pc := 11) (Y := YX2_seesLine) 0 dX2_seesLine_11 rfl rfl) ?_
    refine flp (go_gR (pc := 12) (Y := YX2_seesLine) fF1012 (by decide) q1649 (Or.inl rfl) dX2_seesLine_12) (fun v2 => ?_)
    refine im (go_iconst (pc := 15) (Y := YX2_seesLine) (v := 2) dX2_seesLine_15 rfl) ?_
    refine flp (go_lI1 (pc := 16) (Y := YX2_seesLine) dX2_seesLine_16) (fun v3 => ?_)
    refine im (go_imul (pc := 17) (Y := YX2_seesLine) dX2_seesLine_17) ?_
    refine im (go_iadd (pc := 18) (Y := YX2_seesLine) dX2_seesLine_18) ?_
    refine im (go_istore_n (pc := 19) (Y := YX2_seesLine) (ls2 := [(1, iV (10 + (2 * v3))), (0, rV (some this))]) dX2_seesLine_19 rfl (Nat.le_of_ble_eq_true rfl) rfl) ?_
    refine im (go_aload_n (pc := 20) (Y := YX2_seesLine) 1 dX2_seesLine_20 rfl rfl) ?_
    refine kdg (fun k4 => ?_)
    refine bdg (fun s5 v6 he7 => ?_)
    refine im (go_callV (pc := 21) (Y := YX2_seesLine) (Yc := YX2_placePassed) (y := yX2_placePassed) (n := 0) (c0 := 2) (q := (RX2, TX2, 37)) this [] [] rfl rfl k4 (mX2_placePassed s0 he7) YOK_X2_placePassed rfl q1878 q133 q1877 qs86 q1875 (Nat.le_of_ble_eq_true rfl) (Nat.le_of_ble_eq_true rfl) (Nat.le_of_ble_eq_true rfl) dX2_seesLine_21 (st2 := [iV v6]) rfl) ?_
    clear he7
    refine im (go_istore_n (pc := 24) (Y := YX2_seesLine) (ls2 := [(2, iV v6), (1, iV (10 + (2 * v3))), (0, rV (some this))]) dX2_seesLine_24 rfl (Nat.le_of_ble_eq_true rfl) rfl) ?_
    refine im (go_aload_n (pc := 25) (Y := YX2_seesLine) 2 dX2_seesLine_25 rfl rfl) ?_
    refine kdg (fun k8 => ?_)
    refine bdg (fun s9 v10 he11 => ?_)
    refine im (go_callV (pc := 26) (Y := YX2_seesLine) (Yc := YX2_placeHere) (y := yX2_placeHere) (n := 0) (c0 := 2) (q := (RX2, TX2, 37)) this [] [] rfl rfl k8 (mX2_placeHere s5 he11) YOK_X2_placeHere rfl q1882 q133 q1881 qs87 q1879 (Nat.le_of_ble_eq_true rfl) (Nat.le_of_ble_eq_true rfl) (Nat.le_of_ble_eq_true rfl) dX2_seesLine_26 (st2 := [iV v10]) rfl) ?_
    clear he11
    refine im (go_istore_n (pc := 29) (Y := YX2_seesLine) (ls2 := [(3, iV v10), (2, iV v6), (1, iV (10 + (2 * v3))), (0, rV (some this))]) dX2_seesLine_29 rfl (Nat.le_of_ble_eq_true rfl) rfl) ?_
    refine im (go_iload_n (pc := 30) (Y := YX2_seesLine) 1 dX2_seesLine_30 rfl rfl) ?_
    refine im (go_iload_n (pc := 31) (Y := YX2_seesLine) 0 dX2_seesLine_31 rfl rfl) ?_
    refine bpg (fun v12 he48 h49 => ?_)
    have hj40 : Go G YX2_seesLine s0 sE none 40 [(0, rV (some this)), (1, iV (10 + (2 * v3))), (2, iV v6), (3, iV v10)] [iV v12] s9 := by
      clear he48
      revert h49
      refine im (go_istore (pc := 40) (Y := YX2_seesLine) (ls2 := [(4, iV v12), (0, rV (some this)), (1, iV (10 + (2 * v3))), (2, iV v6), (3, iV v10)]) dX2_seesLine_40 (Nat.le_of_ble_eq_true rfl) rfl) ?_
      refine im (go_iconst (pc := 42) (Y := YX2_seesLine) (v := 0) dX2_seesLine_42 rfl) ?_
      refine im (go_istore (pc := 43) (Y := YX2_seesLine) (ls2 := [(5, iV 0), (4, iV v12), (0, rV (some this)), (1, iV (10 + (2 * v3))), (2, iV v6), (3, iV v10)]) dX2_seesLine_43 (Nat.le_of_ble_eq_true rfl) rfl) ?_
      refine bpg (fun v26 he46 h47 => ?_)
      refine go_sub [2, 3, 4, 5, 1, 0] rfl (sX2_seesLine_L45_go s9 this (10 + (2 * v3)) v6 v10 FU _ _ _ he46 ?_)
      clear he46
      revert h47
      refine im (go_aload_n (pc := 108) (Y := YX2_seesLine) 0 dX2_seesLine_108 rfl rfl) ?_
      refine flp (go_gI (pc := 109) (Y := YX2_seesLine) fF30 (by decide) q1646 (Or.inl rfl) dX2_seesLine_109) (fun v27 => ?_)
      refine bpg (fun s28 he44 h45 => ?_)
      have hj129 : Go G YX2_seesLine s0 sE none 129 [(0, rV (some this)), (1, iV (10 + (2 * v3))), (2, iV v6), (3, iV v10)] [] s28 := by
        clear he44
        revert h45
        refine im (go_aload_n (pc := 129) (Y := YX2_seesLine) 0 dX2_seesLine_129 rfl rfl) ?_
        refine kdg (fun k29 => ?_)
        refine bpg (fun s30 he31 => ?_)
        refine im (go_callV (pc := 130) (Y := YX2_seesLine) (Yc := YX2_pass) (y := yX2_pass) (n := 0) (c0 := 2) (q := (RX2, TX2, 37)) this [] [] rfl rfl k29 (mX2_pass s28 he31) YOK_X2_pass rfl q1842 q133 q1841 qs79 q1839 (Nat.le_of_ble_eq_true rfl) (Nat.le_of_ble_eq_true rfl) (Nat.le_of_ble_eq_true rfl) dX2_seesLine_130 (st2 := []) rfl) ?_
        clear he31
        refine im (go_aload_n (pc := 133) (Y := YX2_seesLine) 0 dX2_seesLine_133 rfl rfl) ?_
        refine flp (go_gI (pc := 134) (Y := YX2_seesLine) fF30 (by decide) q1646 (Or.inl rfl) dX2_seesLine_134) (fun v32 => ?_)
        refine flp2 (go_if_eq (pc := 137) (Y := YX2_seesLine) 141 dX2_seesLine_137 (by decide)) ?_ ?_
        · refine im (go_aload_n (pc := 141) (Y := YX2_seesLine) 0 dX2_seesLine_141 rfl rfl) ?_
          refine flp (go_gR (pc := 142) (Y := YX2_seesLine) fF1012 (by decide) q1649 (Or.inl rfl) dX2_seesLine_142) (fun v33 => ?_)
          refine im (go_iload_n (pc := 145) (Y := YX2_seesLine) 1 dX2_seesLine_145 rfl rfl) ?_
          refine im (go_iload_n (pc := 146) (Y := YX2_seesLine) 2 dX2_seesLine_146 rfl rfl) ?_
          refine flp (go_tI (pc := 147) (Y := YX2_seesLine) dX2_seesLine_147) (fun s34 => ?_)
          refine im (go_aload_n (pc := 148) (Y := YX2_seesLine) 0 dX2_seesLine_148 rfl rfl) ?_
          refine flp (go_gR (pc := 149) (Y := YX2_seesLine) fF1012 (by decide) q1649 (Or.inl rfl) dX2_seesLine_149) (fun v35 => ?_)
          refine im (go_iload_n (pc := 152) (Y := YX2_seesLine) 1 dX2_seesLine_152 rfl rfl) ?_
          refine im (go_iconst (pc := 153) (Y := YX2_seesLine) (v := 1) dX2_seesLine_153 rfl) ?_
          refine im (go_iadd (pc := 154) (Y := YX2_seesLine) dX2_seesLine_154) ?_
          refine im (go_iload_n (pc := 155) (Y := YX2_seesLine) 3 dX2_seesLine_155 rfl rfl) ?_
          refine flp (go_tI (pc := 156) (Y := YX2_seesLine) dX2_seesLine_156) (fun s36 => ?_)
          refine im (go_aload_n (pc := 157) (Y := YX2_seesLine) 0 dX2_seesLine_157 rfl rfl) ?_
          refine flp (go_gR (pc := 158) (Y := YX2_seesLine) fF1012 (by decide) q1649 (Or.inl rfl) dX2_seesLine_158) (fun v37 => ?_)
          refine im (go_iconst (pc := 161) (Y := YX2_seesLine) (v := 2) dX2_seesLine_161 rfl) ?_
          refine im (go_dup2 (pc := 162) (Y := YX2_seesLine) dX2_seesLine_162 rfl rfl) ?_
          refine flp (go_lI1 (pc := 163) (Y := YX2_seesLine) dX2_seesLine_163) (fun v38 => ?_)
          refine im (go_iconst (pc := 164) (Y := YX2_seesLine) (v := 1) dX2_seesLine_164 rfl) ?_
          refine im (go_iadd (pc := 165) (Y := YX2_seesLine) dX2_seesLine_165) ?_
          refine flp (go_tI (pc := 166) (Y := YX2_seesLine) dX2_seesLine_166) (fun s39 => ?_)
          refine e1 (fun q0 => ?_)
          subst q0
          exact go_vret (pc := 167) (Y := YX2_seesLine) rfl dX2_seesLine_167
        · refine e1 (fun q0 => ?_)
          subst q0
          exact go_vret (pc := 140) (Y := YX2_seesLine) rfl dX2_seesLine_140
      clear h45
      revert he44
      refine flp2 (go_if_ne (pc := 112) (Y := YX2_seesLine) 129 dX2_seesLine_112 (by decide)) ?_ ?_
      · refine im (go_iload (pc := 115) (Y := YX2_seesLine) 4 dX2_seesLine_115 rfl) ?_
        refine flp2 (go_if_eq (pc := 117) (Y := YX2_seesLine) 129 dX2_seesLine_117 (by decide)) ?_ ?_
        · refine e1 (fun q0 => ?_)
          subst q0
          exact go_sub [0, 1, 2, 3] rfl hj129
        · refine im (go_aload_n (pc := 120) (Y := YX2_seesLine) 0 dX2_seesLine_120 rfl rfl) ?_
          refine im (go_iconst (pc := 121) (Y := YX2_seesLine) (v := 3) dX2_seesLine_121 rfl) ?_
          refine im (go_aload_n (pc := 122) (Y := YX2_seesLine) 0 dX2_seesLine_122 rfl rfl) ?_
          refine flp (go_gI (pc := 123) (Y := YX2_seesLine) fF22 (by decide) q1637 (Or.inl rfl) dX2_seesLine_123) (fun v40 => ?_)
          refine kdg (fun k41 => ?_)
          refine bpg (fun s42 he43 => ?_)
          refine im (go_callV (pc := 126) (Y := YX2_seesLine) (Yc := YX2_wrong) (y := yX2_wrong) (n := 2) (c0 := 2) (q := (RX2, TX2, 37)) this [iV 3, iV v40] [] rfl rfl k41 (mX2_wrong s9 he43) YOK_X2_wrong rfl q1817 q133 q1816 qs73 q1814 (Nat.le_of_ble_eq_true rfl) (Nat.le_of_ble_eq_true rfl) (Nat.le_of_ble_eq_true rfl) dX2_seesLine_126 (st2 := []) rfl) ?_
          clear he43
          refine e1 (fun q0 => ?_)
          subst q0
          exact go_sub [0, 1, 2, 3] rfl hj129
      · refine e1 (fun q0 => ?_)
        subst q0
        exact go_sub [0, 1, 2, 3] rfl hj129
    clear h49
    revert he48
    refine flp2 (go_icmp_ne (pc := 32) (Y := YX2_seesLine) 39 dX2_seesLine_32 (by decide)) ?_ ?_
    · refine im (go_iconst (pc := 35) (Y := YX2_seesLine) (v := 1) dX2_seesLine_35 rfl) ?_
      refine im (go_goto (pc := 36) (Y := YX2_seesLine) 40 dX2_seesLine_36 (by decide)) ?_
      refine e1 (fun q0 => ?_)
      subst q0
      exact go_sub [3, 2, 1, 0] rfl hj40
    · refine im (go_iconst (pc := 39) (Y := YX2_seesLine) (v := 0) dX2_seesLine_39 rfl) ?_
      refine e1 (fun q0 => ?_)
      subst q0
      exact go_sub [3, 2, 1, 0] rfl hj40
  · refine e1 (fun q0 => ?_)
    subst q0
    exact go_vret (pc := 7) (Y := YX2_seesLine) rfl dX2_seesLine_7
abbrev YX2_personLine : mY := (RX2, cX2_personLine, 5, (Option.none : Option Jvm.ClassFile.FieldType), 9, 192, false)
theorem YOK_X2_personLine : YOK yX2_personLine 0 := ⟨⟨by decide +kernel, by decide +kernel⟩, by decide +kernel⟩
theorem mX2_personLine {G : gG} (s0 : St) {this : Nat} {sE : St} (h : sX2_personLine s0 this = some sE) : Mt G YX2_personLine yX2_personLine [rV (some this)] s0 none sE := by
  refine go_start (ls0 := [(0, rV (some this))]) (by decide +kernel) rfl (fun h => by cases h) (Nat.le_of_ble_eq_true rfl) rfl ?_
  revert h
  unfold sX2_personLine
  refine im (go_aload_n (pc := 0) (Y := YX2_personLine) 0 dX2_personLine_0 rfl rfl) ?_
  refine flp (go_gI (pc := 1) (Y := YX2_personLine) fF30 (by decide) q1646 (Or.inl rfl) dX2_personLine_1) (fun v1 => ?_)
  refine flp2 (go_if_eq (pc := 4) (Y := YX2_personLine) 8 dX2_personLine_4 (by decide)) ?_ ?_
  · refine im (go_bipush (pc := 8) (Y := YX2_personLine) (v := 26) dX2_personLine_8 rfl) ?_
    refine im (go_iconst (pc := 10) (Y := YX2_personLine) (v := 4) dX2_personLine_10 rfl) ?_
    refine im (go_aload_n (pc := 11) (Y := YX2_personLine) 0 dX2_personLine_11 rfl rfl) ?_
    refine flp (go_gR (pc := 12) (Y := YX2_personLine) fF1012 (by decide) q1649 (Or.inl rfl) dX2_personLine_12) (fun v2 => ?_)
    refine im (go_iconst (pc := 15) (Y := YX2_personLine) (v := 3) dX2_personLine_15 rfl) ?_
    refine flp (go_lI1 (pc := 16) (Y := YX2_personLine) dX2_personLine_16) (fun v3 => ?_)
    refine im (go_imul (pc := 17) (Y := YX2_personLine) dX2_personLine_17) ?_
    refine im (go_iadd (pc := 18) (Y := YX2_personLine) dX2_personLine_18) ?_
    refine im (go_istore_n (pc := 19) (Y := YX2_personLine) (ls2 := [(1, iV (26 + (4 * v3))), (0, rV (some this))]) dX2_personLine_19 rfl (Nat.le_of_ble_eq_true rfl) rfl) ?_
    refine im (go_aload_n (pc := 20) (Y := YX2_personLine) 1 dX2_personLine_20 rfl rfl) ?_
    refine im (go_bipush (pc := 21) (Y := YX2_personLine) (v := 6) dX2_personLine_21 rfl) ?_
    refine im (go_aload_n (pc := 23) (Y := YX2_personLine) 1 dX2_personLine_23 rfl rfl) ?_
    refine flp (go_gR (pc := 24) (Y := YX2_personLine) fF1012 (by decide) q1649 (Or.inl rfl) dX2_personLine_24) (fun v4 => ?_)
    refine im (go_iconst (pc := 27) (Y := YX2_personLine) (v := 3) dX2_personLine_27 rfl) ?_
    refine flp (go_lI1 (pc := 28) (Y := YX2_personLine) dX2_personLine_28) (fun v5 => ?_)
    refine im (go_iadd (pc := 29) (Y := YX2_personLine) dX2_personLine_29) ?_
    refine kdg (fun k6 => ?_)
    refine bpg (fun s7 he8 => ?_)
    refine im (go_callV (pc := 30) (Y := YX2_personLine) (Yc := YX2_newName) (y := yX2_newName) (n := 1) (c0 := 2) (q := (RX2, TX2, 37)) this [iV (6 + v5)] [] rfl rfl k6 (mX2_newName s0 he8) YOK_X2_newName rfl q1855 q133 q1854 qs82 q1852 (Nat.le_of_ble_eq_true rfl) (Nat.le_of_ble_eq_true rfl) (Nat.le_of_ble_eq_true rfl) dX2_personLine_30 (st2 := []) rfl) ?_
    clear he8
    refine im (go_aload_n (pc := 33) (Y := YX2_personLine) 1 dX2_personLine_33 rfl rfl) ?_
    refine im (go_ldcS (pc := 34) (Y := YX2_personLine) (idx := 229) (i := 14) (tx := "plain") (by decide +kernel) dX2_personLine_34) ?_
    refine kdg (fun k9 => ?_)
    refine bpg (fun v10 he11 => ?_)
    refine im (go_callV (pc := 36) (Y := YX2_personLine) (Yc := YX2_isWord) (y := yX2_isWord) (n := 1) (c0 := 2) (q := (RX2, TX2, 37)) this [rV (s7.ks 14)] [] rfl rfl k9 (mX2_isWord s7 he11) YOK_X2_isWord rfl q1790 q133 q1789 qs71 q1787 (Nat.le_of_ble_eq_true rfl) (Nat.le_of_ble_eq_true rfl) (Nat.le_of_ble_eq_true rfl) dX2_personLine_36 (st2 := [iV v10]) rfl) ?_
    clear he11
    refine bpg (fun v12 he53 h54 => ?_)
    have hj86 : Go G YX2_personLine s0 sE none 86 [(0, rV (some this)), (1, iV (26 + (4 * v3)))] [iV v12] s7 := by
      clear he53
      revert h54
      refine im (go_istore_n (pc := 86) (Y := YX2_personLine) (ls2 := [(2, iV v12), (0, rV (some this)), (1, iV (26 + (4 * v3)))]) dX2_personLine_86 rfl (Nat.le_of_ble_eq_true rfl) rfl) ?_
      refine im (go_iload_n (pc := 87) (Y := YX2_personLine) 0 dX2_personLine_87 rfl rfl) ?_
      refine bpg (fun s13 he42 h43 => ?_)
      have hj100 : Go G YX2_personLine s0 sE none 100 [(0, rV (some this)), (1, iV (26 + (4 * v3))), (2, iV v12)] [] s13 := by
        clear he42
        revert h43
        refine im (go_aload_n (pc := 100) (Y := YX2_personLine) 0 dX2_personLine_100 rfl rfl) ?_
        refine kdg (fun k14 => ?_)
        refine bpg (fun s15 he16 => ?_)
        refine im (go_callV (pc := 101) (Y := YX2_personLine) (Yc := YX2_pass) (y := yX2_pass) (n := 0) (c0 := 2) (q := (RX2, TX2, 37)) this [] [] rfl rfl k14 (mX2_pass s13 he16) YOK_X2_pass rfl q1842 q133 q1841 qs79 q1839 (Nat.le_of_ble_eq_true rfl) (Nat.le_of_ble_eq_true rfl) (Nat.le_of_ble_eq_true rfl) dX2_personLine_101 (st2 := []) rfl) ?_
        clear he16
        refine im (go_aload_n (pc := 104) (Y := YX2_personLine) 0 dX2_personLine_104 rfl rfl) ?_
        refine im (go_ldcS (pc := 105) (Y := YX2_personLine) (idx := 237) (i := 1) (tx := "at") (by decide +kernel) dX2_personLine_105) ?_
        refine kdg (fun k17 => ?_)
        refine bpg (fun s18 he19 => ?_)
        refine im (go_callV (pc := 107) (Y := YX2_personLine) (Yc := YX2_must) (y := yX2_must) (n := 1) (c0 := 2) (q := (RX2, TX2, 37)) this [rV (s15.ks 1)] [] rfl rfl k17 (mX2_must s15 he19) YOK_X2_must rfl q1826 q133 q1825 qs75 q1823 (Nat.le_of_ble_eq_true rfl) (Nat.le_of_ble_eq_true rfl) (Nat.le_of_ble_eq_true rfl) dX2_personLine_107 (st2 := []) rfl) ?_
        clear he19
        refine im (go_aload_n (pc := 110) (Y := YX2_personLine) 0 dX2_personLine_110 rfl rfl) ?_
        refine kdg (fun k20 => ?_)
        refine bdg (fun s21 v22 he23 => ?_)
        refine im (go_callV (pc := 111) (Y := YX2_personLine) (Yc := YX2_placePassed) (y := yX2_placePassed) (n := 0) (c0 := 2) (q := (RX2, TX2, 37)) this [] [] rfl rfl k20 (mX2_placePassed s18 he23) YOK_X2_placePassed rfl q1878 q133 q1877 qs86 q1875 (Nat.le_of_ble_eq_true rfl) (Nat.le_of_ble_eq_true rfl) (Nat.le_of_ble_eq_true rfl) dX2_personLine_111 (st2 := [iV v22]) rfl) ?_
        clear he23
        refine im (go_istore_n (pc := 114) (Y := YX2_personLine) (ls2 := [(3, iV v22), (0, rV (some this)), (1, iV (26 + (4 * v3))), (2, iV v12)]) dX2_personLine_114 rfl (Nat.le_of_ble_eq_true rfl) rfl) ?_
        refine im (go_aload_n (pc := 115) (Y := YX2_personLine) 1 dX2_personLine_115 rfl rfl) ?_
        refine im (go_ldcS (pc := 116) (Y := YX2_personLine) (idx := 238) (i := 19) (tx := "wit") (by decide +kernel) dX2_personLine_116) ?_
        refine im (go_iconst (pc := 118) (Y := YX2_personLine) (v := 0) dX2_personLine_118 rfl) ?_
        refine im (go_bipush (pc := 119) (Y := YX2_personLine) (v := 9) dX2_personLine_119 rfl) ?_
        refine kdg (fun k24 => ?_)
        refine bdg (fun s25 v26 he27 => ?_)
        refine im (go_callV (pc := 121) (Y := YX2_personLine) (Yc := YX2_after) (y := yX2_after) (n := 3) (c0 := 2) (q := (RX2, TX2, 37)) this [rV (s21.ks 19), iV 0, iV 9] [] rfl rfl k24 (mX2_after s21 he27) YOK_X2_after rfl q1822 q133 q1821 qs74 q1819 (Nat.le_of_ble_eq_true rfl) (Nat.le_of_ble_eq_true rfl) (Nat.le_of_ble_eq_true rfl) dX2_personLine_121 (st2 := [iV v26]) rfl) ?_
        clear he27
        refine im (go_istore (pc := 124) (Y := YX2_personLine) (ls2 := [(4, iV v26), (3, iV v22), (0, rV (some this)), (1, iV (26 + (4 * v3))), (2, iV v12)]) dX2_personLine_124 (Nat.le_of_ble_eq_true rfl) rfl) ?_
        refine im (go_aload_n (pc := 126) (Y := YX2_personLine) 2 dX2_personLine_126 rfl rfl) ?_
        refine flp (go_gI (pc := 127) (Y := YX2_personLine) fF30 (by decide) q1646 (Or.inl rfl) dX2_personLine_127) (fun v28 => ?_)
        refine flp2 (go_if_eq (pc := 130) (Y := YX2_personLine) 134 dX2_personLine_130 (by decide)) ?_ ?_
        · refine im (go_aload_n (pc := 134) (Y := YX2_personLine) 2 dX2_personLine_134 rfl rfl) ?_
          refine flp (go_gR (pc := 135) (Y := YX2_personLine) fF1012 (by decide) q1649 (Or.inl rfl) dX2_personLine_135) (fun v29 => ?_)
          refine im (go_iload_n (pc := 138) (Y := YX2_personLine) 3 dX2_personLine_138 rfl rfl) ?_
          refine im (go_iload_n (pc := 139) (Y := YX2_personLine) 4 dX2_personLine_139 rfl rfl) ?_
          refine flp (go_tI (pc := 140) (Y := YX2_personLine) dX2_personLine_140) (fun s30 => ?_)
          refine im (go_aload_n (pc := 141) (Y := YX2_personLine) 2 dX2_personLine_141 rfl rfl) ?_
          refine flp (go_gR (pc := 142) (Y := YX2_personLine) fF1012 (by decide) q1649 (Or.inl rfl) dX2_personLine_142) (fun v31 => ?_)
          refine im (go_iload_n (pc := 145) (Y := YX2_personLine) 3 dX2_personLine_145 rfl rfl) ?_
          refine im (go_iconst (pc := 146) (Y := YX2_personLine) (v := 1) dX2_personLine_146 rfl) ?_
          refine im (go_iadd (pc := 147) (Y := YX2_personLine) dX2_personLine_147) ?_
          refine im (go_iload_n (pc := 148) (Y := YX2_personLine) 1 dX2_personLine_148 rfl rfl) ?_
          refine flp (go_tI (pc := 149) (Y := YX2_personLine) dX2_personLine_149) (fun s32 => ?_)
          refine im (go_aload_n (pc := 150) (Y := YX2_personLine) 2 dX2_personLine_150 rfl rfl) ?_
          refine flp (go_gR (pc := 151) (Y := YX2_personLine) fF1012 (by decide) q1649 (Or.inl rfl) dX2_personLine_151) (fun v33 => ?_)
          refine im (go_iload_n (pc := 154) (Y := YX2_personLine) 3 dX2_personLine_154 rfl rfl) ?_
          refine im (go_iconst (pc := 155) (Y := YX2_personLine) (v := 2) dX2_personLine_155 rfl) ?_
          refine im (go_iadd (pc := 156) (Y := YX2_personLine) dX2_personLine_156) ?_
          refine im (go_iload (pc := 157) (Y := YX2_personLine) 0 dX2_personLine_157 rfl) ?_
          refine flp (go_tI (pc := 159) (Y := YX2_personLine) dX2_personLine_159) (fun s34 => ?_)
          refine im (go_aload_n (pc := 160) (Y := YX2_personLine) 2 dX2_personLine_160 rfl rfl) ?_
          refine flp (go_gR (pc := 161) (Y := YX2_personLine) fF1012 (by decide) q1649 (Or.inl rfl) dX2_personLine_161) (fun v35 => ?_)
          refine im (go_iconst (pc := 164) (Y := YX2_personLine) (v := 3) dX2_personLine_164 rfl) ?_
          refine im (go_dup2 (pc := 165) (Y := YX2_personLine) dX2_personLine_165 rfl rfl) ?_
          refine flp (go_lI1 (pc := 166) (Y := YX2_personLine) dX2_personLine_166) (fun v36 => ?_)
          refine im (go_iconst (pc := 167) (Y := YX2_personLine) (v := 1) dX2_personLine_167 rfl) ?_
          refine im (go_iadd (pc := 168) (Y := YX2_personLine) dX2_personLine_168) ?_
          refine flp (go_tI (pc := 169) (Y := YX2_personLine) dX2_personLine_169) (fun s37 => ?_)
          refine e1 (fun q0 => ?_)
          subst q0
          exact go_vret (pc := 170) (Y := YX2_personLine) rfl dX2_personLine_170
        · refine e1 (fun q0 => ?_)
          subst q0
          exact go_vret (pc := 133) (Y := YX2_personLine) rfl dX2_personLine_133
      clear h43
      revert he42
      refine flp2 (go_if_ge (pc := 88) (Y := YX2_personLine) 100 dX2_personLine_88 (by decide)) ?_ ?_
      · refine e1 (fun q0 => ?_)
        subst q0
        exact go_sub [1, 2, 0] rfl hj100
      · refine im (go_aload_n (pc := 91) (Y := YX2_personLine) 1 dX2_personLine_91 rfl rfl) ?_
        refine im (go_iconst (pc := 92) (Y := YX2_personLine) (v := 1) dX2_personLine_92 rfl) ?_
        refine im (go_aload_n (pc := 93) (Y := YX2_personLine) 1 dX2_personLine_93 rfl rfl) ?_
        refine flp (go_gI (pc := 94) (Y := YX2_personLine) fF22 (by decide) q1637 (Or.inl rfl) dX2_personLine_94) (fun v38 => ?_)
        refine kdg (fun k39 => ?_)
        refine bpg (fun s40 he41 => ?_)
        refine im (go_callV (pc := 97) (Y := YX2_personLine) (Yc := YX2_wrong) (y := yX2_wrong) (n := 2) (c0 := 2) (q := (RX2, TX2, 37)) this [iV 1, iV v38] [] rfl rfl k39 (mX2_wrong s7 he41) YOK_X2_wrong rfl q1817 q133 q1816 qs73 q1814 (Nat.le_of_ble_eq_true rfl) (Nat.le_of_ble_eq_true rfl) (Nat.le_of_ble_eq_true rfl) dX2_personLine_97 (st2 := []) rfl) ?_
        clear he41
        refine e1 (fun q0 => ?_)
        subst q0
        exact go_sub [1, 2, 0] rfl hj100
    clear h54
    revert he53
    refine flp2 (go_if_eq (pc := 39) (Y := YX2_personLine) 46 dX2_personLine_39 (by decide)) ?_ ?_
    · refine im (go_aload_n (pc := 46) (Y := YX2_personLine) 1 dX2_personLine_46 rfl rfl) ?_
      refine im (go_ldcS (pc := 47) (Y := YX2_personLine) (idx := 231) (i := 5) (tx := "deaf") (by decide +kernel) dX2_personLine_47) ?_
      refine kdg (fun k44 => ?_)
      refine bpg (fun v45 he46 => ?_)
      refine im (go_callV (pc := 49) (Y := YX2_personLine) (Yc := YX2_isWord) (y := yX2_isWord) (n := 1) (c0 := 2) (q := (RX2, TX2, 37)) this [rV (s7.ks 5)] [] rfl rfl k44 (mX2_isWord s7 he46) YOK_X2_isWord rfl q1790 q133 q1789 qs71 q1787 (Nat.le_of_ble_eq_true rfl) (Nat.le_of_ble_eq_true rfl) (Nat.le_of_ble_eq_true rfl) dX2_personLine_49 (st2 := [iV v45]) rfl) ?_
      clear he46
      refine flp2 (go_if_eq (pc := 52) (Y := YX2_personLine) 59 dX2_personLine_52 (by decide)) ?_ ?_
      · refine im (go_aload_n (pc := 59) (Y := YX2_personLine) 1 dX2_personLine_59 rfl rfl) ?_
        refine im (go_ldcS (pc := 60) (Y := YX2_personLine) (idx := 233) (i := 3) (tx := "blind") (by decide +kernel) dX2_personLine_60) ?_
        refine kdg (fun k47 => ?_)
        refine bpg (fun v48 he49 => ?_)
        refine im (go_callV (pc := 62) (Y := YX2_personLine) (Yc := YX2_isWord) (y := yX2_isWord) (n := 1) (c0 := 2) (q := (RX2, TX2, 37)) this [rV (s7.ks 3)] [] rfl rfl k47 (mX2_isWord s7 he49) YOK_X2_isWord rfl q1790 q133 q1789 qs71 q1787 (Nat.le_of_ble_eq_true rfl) (Nat.le_of_ble_eq_true rfl) (Nat.le_of_ble_eq_true rfl) dX2_personLine_62 (st2 := [iV v48]) rfl) ?_
        clear he49
        refine flp2 (go_if_eq (pc := 65) (Y := YX2_personLine) 72 dX2_personLine_65 (by decide)) ?_ ?_
        · refine im (go_aload_n (pc := 72) (Y := YX2_personLine) 1 dX2_personLine_72 rfl rfl) ?_
          refine im (go_ldcS (pc := 73) (Y := YX2_personLine) (idx := 235) (i := 2) (tx := "babe") (by decide +kernel) dX2_personLine_73) ?_
          refine kdg (fun k50 => ?_)
          refine bpg (fun v51 he52 => ?_)
          refine im (go_callV (pc := 75) (Y := YX2_personLine) (Yc := YX2_isWord) (y := yX2_isWord) (n := 1) (c0 := 2) (q := (RX2, TX2, 37)) this [rV (s7.ks 2)] [] rfl rfl k50 (mX2_isWord s7 he52) YOK_X2_isWord rfl q1790 q133 q1789 qs71 q1787 (Nat.le_of_ble_eq_true rfl) (Nat.le_of_ble_eq_true rfl) (Nat.le_of_ble_eq_true rfl) dX2_personLine_75 (st2 := [iV v51]) rfl) ?_
          clear he52
          refine flp2 (go_if_eq (pc := 78) (Y := YX2_personLine) 85 dX2_personLine_78 (by decide)) ?_ ?_
          · refine im (go_iconst (pc := 85) (Y := YX2_personLine) (v := -1) dX2_personLine_85 rfl) ?_
            refine e1 (fun q0 => ?_)
            subst q0
            exact go_sub [1, 0] rfl hj86
          · refine im (go_iconst (pc := 81) (Y := YX2_personLine) (v := 3) dX2_personLine_81 rfl) ?_
            refine im (go_goto (pc := 82) (Y := YX2_personLine) 86 dX2_personLine_82 (by decide)) ?_
            refine e1 (fun q0 => ?_)
            subst q0
            exact go_sub [1, 0] rfl hj86
        · refine im (go_iconst (pc := 68) (Y := YX2_personLine) (v := 2) dX2_personLine_68 rfl) ?_
          refine im (go_goto (pc := 69) (Y := YX2_personLine) 86 dX2_personLine_69 (by decide)) ?_
          refine e1 (fun q0 => ?_)
          subst q0
          exact go_sub [1, 0] rfl hj86
      · refine im (go_iconst (pc := 55) (Y := YX2_personLine) (v := 1) dX2_personLine_55 rfl) ?_
        refine im (go_goto (pc := 56) (Y := YX2_personLine) 86 dX2_personLine_56 (by decide)) ?_
        refine e1 (fun q0 => ?_)
        subst q0
        exact go_sub [1, 0] rfl hj86
    · refine im (go_iconst (pc := 42) (Y := YX2_personLine) (v := 0) dX2_personLine_42 rfl) ?_
      refine im (go_goto (pc := 43) (Y := YX2_personLine) 86 dX2_personLine_43 (by decide)) ?_
      refine e1 (fun q0 => ?_)
      subst q0
      exact go_sub [1, 0] rfl hj86
  · refine e1 (fun q0 => ?_)
    subst q0
    exact go_vret (pc := 7) (Y := YX2_personLine) rfl dX2_personLine_7
abbrev YX2_personHere : mY := (RX2, cX2_personHere, 1, (Option.some .int), 7, 151, false)
theorem YOK_X2_personHere : YOK yX2_personHere 0 := ⟨⟨by decide +kernel, by decide +kernel⟩, by decide +kernel⟩
theorem mX2_personHere {G : gG} (s0 : St) {this : Nat} {sE : St} {vE : Int32} (h : sX2_personHere s0 this = some (sE, vE)) : Mt G YX2_personHere yX2_personHere [rV (some this)] s0 (some (iV vE)) sE := by
  refine go_start (ls0 := [(0, rV (some this))]) (by decide +kernel) rfl (fun h => by cases h) (Nat.le_of_ble_eq_true rfl) rfl ?_
  revert h
  unfold sX2_personHere
  refine im (go_aload_n (pc := 0) (Y := YX2_personHere) 0 dX2_personHere_0 rfl rfl) ?_
  refine im (go_bipush (pc := 1) (Y := YX2_personHere) (v := 6) dX2_personHere_1 rfl) ?_
  refine im (go_bipush (pc := 3) (Y := YX2_personHere) (v := 11) dX2_personHere_3 rfl) ?_
  refine kdg (fun k1 => ?_)
  refine bdg (fun s2 v3 he4 => ?_)
  refine im (go_callV (pc := 5) (Y := YX2_personHere) (Yc := YX2_named) (y := yX2_named) (n := 2) (c0 := 2) (q := (RX2, TX2, 37)) this [iV 6, iV 11] [] rfl rfl k1 (mX2_named s0 he4) YOK_X2_named rfl q1886 q133 q1885 qs88 q1883 (Nat.le_of_ble_eq_true rfl) (Nat.le_of_ble_eq_true rfl) (Nat.le_of_ble_eq_true rfl) dX2_personHere_5 (st2 := [iV v3]) rfl) ?_
  clear he4
  refine e2 (fun q0 q1 => ?_)
  subst q0
  subst q1
  exact go_iret (pc := 8) (Y := YX2_personHere) rfl dX2_personHere_8
abbrev YX2_goesLine : mY := (RX2, cX2_goesLine, 6, (Option.none : Option Jvm.ClassFile.FieldType), 9, 192, false)
theorem YOK_X2_goesLine : YOK yX2_goesLine 0 := ⟨⟨by decide +kernel, by decide +kernel⟩, by decide +kernel⟩
theorem sX2_goesLine_L52_go {G : gG} {s0 sE : St} {rE : Option V3} (this : Nat) (i1 : Int32) (i2 : Int32) (i3 : Int32) (i4 : Int32) : ∀ (n : Nat) (s22 : St) (v23 : Int32) (s24 : St), sX2_goesLine_L52 this i2 i4 n s22 v23 = some s24 → Go G YX2_goesLine s0 sE rE 121 [(0, rV (some this)), (1, iV i1), (2, iV i2), (3, iV i3), (4, iV i4)] [] s24 → Go G YX2_goesLine s0 sE rE 52 [(0, rV (some this)), (1, iV i1), (2, iV i2), (3, iV i3), (4, iV i4), (5, iV v23)] [] s22 := by
  intro n
  induction n with
  | zero => intro s22 v23 s24 h hx; rw [sX2_goesLine_L52] at h; cases h
  | succ n ih =>
    intro s22 v23 s24 h hx
    revert h
    rw [sX2_goesLine_L52]
    refine im (go_iload (pc := 52) (Y := YX2_goesLine) 5 dX2_goesLine_52 rfl) ?_
    refine im (go_aload_n (pc := 54) (Y := YX2_goesLine) 0 dX2_goesLine_54 rfl rfl) ?_
    refine flp (go_gR (pc := 55) (Y := YX2_goesLine) fF1012 (by decide) q1649 (Or.inl rfl) dX2_goesLine_55) (fun v25 => ?_)
    refine im (go_iconst (pc := 58) (Y := YX2_goesLine) (v := 4) dX2_goesLine_58 rfl) ?_
    refine flp (go_lI1 (pc := 59) (Y := YX2_goesLine) dX2_goesLine_59) (fun v26 => ?_)
    refine flp2 (go_icmp_ge (pc := 60) (Y := YX2_goesLine) 121 dX2_goesLine_60 (by decide)) ?_ ?_
    · refine e1 (fun q0 => ?_)
      subst q0
      exact go_sub [0, 1, 2, 3, 4] rfl hx
    · refine im (go_aload_n (pc := 63) (Y := YX2_goesLine) 0 dX2_goesLine_63 rfl rfl) ?_
      refine flp (go_gI (pc := 64) (Y := YX2_goesLine) fF30 (by decide) q1646 (Or.inl rfl) dX2_goesLine_64) (fun v27 => ?_)
      refine bpg (fun s28 he37 h38 => ?_)
      have hj115 : Go G YX2_goesLine s0 sE rE 115 [(0, rV (some this)), (1, iV i1), (2, iV i2), (3, iV i3), (4, iV i4), (5, iV v23)] [] s28 := by
        clear he37
        revert h38
        refine im (go_iinc (pc := 115) (Y := YX2_goesLine) 5 (v := (v23 + 1)) (ls2 := [(5, iV (v23 + 1)), (0, rV (some this)), (1, iV i1), (2, iV i2), (3, iV i3), (4, iV i4)]) dX2_goesLine_115 rfl rfl (Nat.le_of_ble_eq_true rfl) rfl) ?_
        refine im (go_goto (pc := 118) (Y := YX2_goesLine) 52 dX2_goesLine_118 (by decide)) ?_
        exact fun hq => go_sub [1, 2, 3, 4, 5, 0] rfl (ih _ _ _ hq hx)
      clear h38
      revert he37
      refine flp2 (go_if_ne (pc := 67) (Y := YX2_goesLine) 115 dX2_goesLine_67 (by decide)) ?_ ?_
      · refine im (go_aload_n (pc := 70) (Y := YX2_goesLine) 0 dX2_goesLine_70 rfl rfl) ?_
        refine flp (go_gR (pc := 71) (Y := YX2_goesLine) fF1012 (by decide) q1649 (Or.inl rfl) dX2_goesLine_71) (fun v29 => ?_)
        refine im (go_bipush (pc := 74) (Y := YX2_goesLine) (v := 50) dX2_goesLine_74 rfl) ?_
        refine im (go_iconst (pc := 76) (Y := YX2_goesLine) (v := 3) dX2_goesLine_76 rfl) ?_
        refine im (go_iload (pc := 77) (Y := YX2_goesLine) 5 dX2_goesLine_77 rfl) ?_
        refine im (go_imul (pc := 79) (Y := YX2_goesLine) dX2_goesLine_79) ?_
        refine im (go_iadd (pc := 80) (Y := YX2_goesLine) dX2_goesLine_80) ?_
        refine flp (go_lI1 (pc := 81) (Y := YX2_goesLine) dX2_goesLine_81) (fun v30 => ?_)
        refine im (go_iload_n (pc := 82) (Y := YX2_goesLine) 2 dX2_goesLine_82 rfl rfl) ?_
        refine flp2 (go_icmp_ne (pc := 83) (Y := YX2_goesLine) 115 dX2_goesLine_83 (by decide)) ?_ ?_
        · refine im (go_aload_n (pc := 86) (Y := YX2_goesLine) 0 dX2_goesLine_86 rfl rfl) ?_
          refine flp (go_gR (pc := 87) (Y := YX2_goesLine) fF1012 (by decide) q1649 (Or.inl rfl) dX2_goesLine_87) (fun v31 => ?_)
          refine im (go_bipush (pc := 90) (Y := YX2_goesLine) (v := 50) dX2_goesLine_90 rfl) ?_
          refine im (go_iconst (pc := 92) (Y := YX2_goesLine) (v := 3) dX2_goesLine_92 rfl) ?_
          refine im (go_iload (pc := 93) (Y := YX2_goesLine) 5 dX2_goesLine_93 rfl) ?_
          refine im (go_imul (pc := 95) (Y := YX2_goesLine) dX2_goesLine_95) ?_
          refine im (go_iadd (pc := 96) (Y := YX2_goesLine) dX2_goesLine_96) ?_
          refine im (go_iconst (pc := 97) (Y := YX2_goesLine) (v := 2) dX2_goesLine_97 rfl) ?_
          refine im (go_iadd (pc := 98) (Y := YX2_goesLine) dX2_goesLine_98) ?_
          refine flp (go_lI1 (pc := 99) (Y := YX2_goesLine) dX2_goesLine_99) (fun v32 => ?_)
          refine im (go_iload (pc := 100) (Y := YX2_goesLine) 4 dX2_goesLine_100 rfl) ?_
          refine flp2 (go_icmp_lt (pc := 102) (Y := YX2_goesLine) 115 dX2_goesLine_102 (by decide)) ?_ ?_
          · refine e1 (fun q0 => ?_)
            subst q0
            exact go_sub [0, 1, 2, 3, 4, 5] rfl hj115
          · refine im (go_aload_n (pc := 105) (Y := YX2_goesLine) 0 dX2_goesLine_105 rfl rfl) ?_
            refine im (go_bipush (pc := 106) (Y := YX2_goesLine) (v := 7) dX2_goesLine_106 rfl) ?_
            refine im (go_aload_n (pc := 108) (Y := YX2_goesLine) 0 dX2_goesLine_108 rfl rfl) ?_
            refine flp (go_gI (pc := 109) (Y := YX2_goesLine) fF22 (by decide) q1637 (Or.inl rfl) dX2_goesLine_109) (fun v33 => ?_)
            refine kdg (fun k34 => ?_)
            refine bpg (fun s35 he36 => ?_)
            refine im (go_callV (pc := 112) (Y := YX2_goesLine) (Yc := YX2_wrong) (y := yX2_wrong) (n := 2) (c0 := 2) (q := (RX2, TX2, 37)) this [iV 7, iV v33] [] rfl rfl k34 (mX2_wrong s22 he36) YOK_X2_wrong rfl q1817 q133 q1816 qs73 q1814 (Nat.le_of_ble_eq_true rfl) (Nat.le_of_ble_eq_true rfl) (Nat.le_of_ble_eq_true rfl) dX2_goesLine_112 (st2 := []) rfl) ?_
            clear he36
            refine e1 (fun q0 => ?_)
            subst q0
            exact go_sub [0, 1, 2, 3, 4, 5] rfl hj115
        · refine e1 (fun q0 => ?_)
          subst q0
          exact go_sub [0, 1, 2, 3, 4, 5] rfl hj115
      · refine e1 (fun q0 => ?_)
        subst q0
        exact go_sub [0, 1, 2, 3, 4, 5] rfl hj115
theorem mX2_goesLine {G : gG} (s0 : St) {this : Nat} {sE : St} (h : sX2_goesLine s0 this = some sE) : Mt G YX2_goesLine yX2_goesLine [rV (some this)] s0 none sE := by
  refine go_start (ls0 := [(0, rV (some this))]) (by decide +kernel) rfl (fun h => by cases h) (Nat.le_of_ble_eq_true rfl) rfl ?_
  revert h
  unfold sX2_goesLine
  refine im (go_aload_n (pc := 0) (Y := YX2_goesLine) 0 dX2_goesLine_0 rfl rfl) ?_
  refine flp (go_gI (pc := 1) (Y := YX2_goesLine) fF30 (by decide) q1646 (Or.inl rfl) dX2_goesLine_1) (fun v1 => ?_)
  refine flp2 (go_if_eq (pc := 4) (Y := YX2_goesLine) 8 dX2_goesLine_4 (by decide)) ?_ ?_
  · refine im (go_bipush (pc := 8) (Y := YX2_goesLine) (v := 50) dX2_goesLine_8 rfl) ?_
    refine im (go_iconst (pc := 10) (Y := YX2_goesLine) (v := 3) dX2_goesLine_10 rfl) ?_
    refine im (go_aload_n (pc := 11) (Y := YX2_goesLine) 0 dX2_goesLine_11 rfl rfl) ?_
    refine flp (go_gR (pc := 12) (Y := YX2_goesLine) fF1012 (by decide) q1649 (Or.inl rfl) dX2_goesLine_12) (fun v2 => ?_)
    refine im (go_iconst (pc := 15) (Y := YX2_goesLine) (v := 4) dX2_goesLine_15 rfl) ?_
    refine flp (go_lI1 (pc := 16) (Y := YX2_goesLine) dX2_goesLine_16) (fun v3 => ?_)
    refine im (go_imul (pc := 17) (Y := YX2_goesLine) dX2_goesLine_17) ?_
    refine im (go_iadd (pc := 18) (Y := YX2_goesLine) dX2_goesLine_18) ?_
    refine im (go_istore_n (pc := 19) (Y := YX2_goesLine) (ls2 := [(1, iV (50 + (3 * v3))), (0, rV (some this))]) dX2_goesLine_19 rfl (Nat.le_of_ble_eq_true rfl) rfl) ?_
    refine im (go_aload_n (pc := 20) (Y := YX2_goesLine) 1 dX2_goesLine_20 rfl rfl) ?_
    refine kdg (fun k4 => ?_)
    refine bdg (fun s5 v6 he7 => ?_)
    refine im (go_callV (pc := 21) (Y := YX2_goesLine) (Yc := YX2_personHere) (y := yX2_personHere) (n := 0) (c0 := 2) (q := (RX2, TX2, 37)) this [] [] rfl rfl k4 (mX2_personHere s0 he7) YOK_X2_personHere rfl q1904 q133 q1903 qs91 q1901 (Nat.le_of_ble_eq_true rfl) (Nat.le_of_ble_eq_true rfl) (Nat.le_of_ble_eq_true rfl) dX2_goesLine_21 (st2 := [iV v6]) rfl) ?_
    clear he7
    refine im (go_istore_n (pc := 24) (Y := YX2_goesLine) (ls2 := [(2, iV v6), (1, iV (50 + (3 * v3))), (0, rV (some this))]) dX2_goesLine_24 rfl (Nat.le_of_ble_eq_true rfl) rfl) ?_
    refine im (go_aload_n (pc := 25) (Y := YX2_goesLine) 2 dX2_goesLine_25 rfl rfl) ?_
    refine kdg (fun k8 => ?_)
    refine bpg (fun s9 he10 => ?_)
    refine im (go_callV (pc := 26) (Y := YX2_goesLine) (Yc := YX2_pass) (y := yX2_pass) (n := 0) (c0 := 2) (q := (RX2, TX2, 37)) this [] [] rfl rfl k8 (mX2_pass s5 he10) YOK_X2_pass rfl q1842 q133 q1841 qs79 q1839 (Nat.le_of_ble_eq_true rfl) (Nat.le_of_ble_eq_true rfl) (Nat.le_of_ble_eq_true rfl) dX2_goesLine_26 (st2 := []) rfl) ?_
    clear he10
    refine im (go_aload_n (pc := 29) (Y := YX2_goesLine) 2 dX2_goesLine_29 rfl rfl) ?_
    refine kdg (fun k11 => ?_)
    refine bdg (fun s12 v13 he14 => ?_)
    refine im (go_callV (pc := 30) (Y := YX2_goesLine) (Yc := YX2_placePassed) (y := yX2_placePassed) (n := 0) (c0 := 2) (q := (RX2, TX2, 37)) this [] [] rfl rfl k11 (mX2_placePassed s9 he14) YOK_X2_placePassed rfl q1878 q133 q1877 qs86 q1875 (Nat.le_of_ble_eq_true rfl) (Nat.le_of_ble_eq_true rfl) (Nat.le_of_ble_eq_true rfl) dX2_goesLine_30 (st2 := [iV v13]) rfl) ?_
    clear he14
    refine im (go_istore_n (pc := 33) (Y := YX2_goesLine) (ls2 := [(3, iV v13), (2, iV v6), (1, iV (50 + (3 * v3))), (0, rV (some this))]) dX2_goesLine_33 rfl (Nat.le_of_ble_eq_true rfl) rfl) ?_
    refine im (go_aload_n (pc := 34) (Y := YX2_goesLine) 3 dX2_goesLine_34 rfl rfl) ?_
    refine im (go_ldcS (pc := 35) (Y := YX2_goesLine) (idx := 237) (i := 1) (tx := "at") (by decide +kernel) dX2_goesLine_35) ?_
    refine kdg (fun k15 => ?_)
    refine bpg (fun s16 he17 => ?_)
    refine im (go_callV (pc := 37) (Y := YX2_goesLine) (Yc := YX2_must) (y := yX2_must) (n := 1) (c0 := 2) (q := (RX2, TX2, 37)) this [rV (s12.ks 1)] [] rfl rfl k15 (mX2_must s12 he17) YOK_X2_must rfl q1826 q133 q1825 qs75 q1823 (Nat.le_of_ble_eq_true rfl) (Nat.le_of_ble_eq_true rfl) (Nat.le_of_ble_eq_true rfl) dX2_goesLine_37 (st2 := []) rfl) ?_
    clear he17
    refine im (go_aload_n (pc := 40) (Y := YX2_goesLine) 3 dX2_goesLine_40 rfl rfl) ?_
    refine im (go_iconst (pc := 41) (Y := YX2_goesLine) (v := 1) dX2_goesLine_41 rfl) ?_
    refine im (go_bipush (pc := 42) (Y := YX2_goesLine) (v := 59) dX2_goesLine_42 rfl) ?_
    refine kdg (fun k18 => ?_)
    refine bdg (fun s19 v20 he21 => ?_)
    refine im (go_callV (pc := 44) (Y := YX2_goesLine) (Yc := YX2_numberHere) (y := yX2_numberHere) (n := 2) (c0 := 2) (q := (RX2, TX2, 37)) this [iV 1, iV 59] [] rfl rfl k18 (mX2_numberHere s16 he21) YOK_X2_numberHere rfl q1838 q133 q1837 qs78 q1835 (Nat.le_of_ble_eq_true rfl) (Nat.le_of_ble_eq_true rfl) (Nat.le_of_ble_eq_true rfl) dX2_goesLine_44 (st2 := [iV v20]) rfl) ?_
    clear he21
    refine im (go_istore (pc := 47) (Y := YX2_goesLine) (ls2 := [(4, iV v20), (3, iV v13), (2, iV v6), (1, iV (50 + (3 * v3))), (0, rV (some this))]) dX2_goesLine_47 (Nat.le_of_ble_eq_true rfl) rfl) ?_
    refine im (go_iconst (pc := 49) (Y := YX2_goesLine) (v := 0) dX2_goesLine_49 rfl) ?_
    refine im (go_istore (pc := 50) (Y := YX2_goesLine) (ls2 := [(5, iV 0), (4, iV v20), (3, iV v13), (2, iV v6), (1, iV (50 + (3 * v3))), (0, rV (some this))]) dX2_goesLine_50 (Nat.le_of_ble_eq_true rfl) rfl) ?_
    refine bpg (fun s39 he53 h54 => ?_)
    refine go_sub [5, 4, 3, 2, 1, 0] rfl (sX2_goesLine_L52_go this (50 + (3 * v3)) v6 v13 v20 FU _ _ _ he53 ?_)
    clear he53
    revert h54
    refine im (go_aload_n (pc := 121) (Y := YX2_goesLine) 0 dX2_goesLine_121 rfl rfl) ?_
    refine kdg (fun k40 => ?_)
    refine bpg (fun s41 he42 => ?_)
    refine im (go_callV (pc := 122) (Y := YX2_goesLine) (Yc := YX2_pass) (y := yX2_pass) (n := 0) (c0 := 2) (q := (RX2, TX2, 37)) this [] [] rfl rfl k40 (mX2_pass s39 he42) YOK_X2_pass rfl q1842 q133 q1841 qs79 q1839 (Nat.le_of_ble_eq_true rfl) (Nat.le_of_ble_eq_true rfl) (Nat.le_of_ble_eq_true rfl) dX2_goesLine_122 (st2 := []) rfl) ?_
    clear he42
    refine im (go_aload_n (pc := 125) (Y := YX2_goesLine) 0 dX2_goesLine_125 rfl rfl) ?_
    refine flp (go_gI (pc := 126) (Y := YX2_goesLine) fF30 (by decide) q1646 (Or.inl rfl) dX2_goesLine_126) (fun v43 => ?_)
    refine flp2 (go_if_eq (pc := 129) (Y := YX2_goesLine) 133 dX2_goesLine_129 (by decide)) ?_ ?_
    · refine im (go_aload_n (pc := 133) (Y := YX2_goesLine) 0 dX2_goesLine_133 rfl rfl) ?_
      refine flp (go_gR (pc := 134) (Y := YX2_goesLine) fF1012 (by decide) q1649 (Or.inl rfl) dX2_goesLine_134) (fun v44 => ?_)
      refine im (go_iload_n (pc := 137) (Y := YX2_goesLine) 1 dX2_goesLine_137 rfl rfl) ?_
      refine im (go_iload_n (pc := 138) (Y := YX2_goesLine) 2 dX2_goesLine_138 rfl rfl) ?_
      refine flp (go_tI (pc := 139) (Y := YX2_goesLine) dX2_goesLine_139) (fun s45 => ?_)
      refine im (go_aload_n (pc := 140) (Y := YX2_goesLine) 0 dX2_goesLine_140 rfl rfl) ?_
      refine flp (go_gR (pc := 141) (Y := YX2_goesLine) fF1012 (by decide) q1649 (Or.inl rfl) dX2_goesLine_141) (fun v46 => ?_)
      refine im (go_iload_n (pc := 144) (Y := YX2_goesLine) 1 dX2_goesLine_144 rfl rfl) ?_
      refine im (go_iconst (pc := 145) (Y := YX2_goesLine) (v := 1) dX2_goesLine_145 rfl) ?_
      refine im (go_iadd (pc := 146) (Y := YX2_goesLine) dX2_goesLine_146) ?_
      refine im (go_iload_n (pc := 147) (Y := YX2_goesLine) 3 dX2_goesLine_147 rfl rfl) ?_
      refine flp (go_tI (pc := 148) (Y := YX2_goesLine) dX2_goesLine_148) (fun s47 => ?_)
      refine im (go_aload_n (pc := 149) (Y := YX2_goesLine) 0 dX2_goesLine_149 rfl rfl) ?_
      refine flp (go_gR (pc := 150) (Y := YX2_goesLine) fF1012 (by decide) q1649 (Or.inl rfl) dX2_goesLine_150) (fun v48 => ?_)
      refine im (go_iload_n (pc := 153) (Y := YX2_goesLine) 1 dX2_goesLine_153 rfl rfl) ?_
      refine im (go_iconst (pc := 154) (Y := YX2_goesLine) (v := 2) dX2_goesLine_154 rfl) ?_
      refine im (go_iadd (pc := 155) (Y := YX2_goesLine) dX2_goesLine_155) ?_
      refine im (go_iload (pc := 156) (Y := YX2_goesLine) 4 dX2_goesLine_156 rfl) ?_
      refine flp (go_tI (pc := 158) (Y := YX2_goesLine) dX2_goesLine_158) (fun s49 => ?_)
      refine im (go_aload_n (pc := 159) (Y := YX2_goesLine) 0 dX2_goesLine_159 rfl rfl) ?_
      refine flp (go_gR (pc := 160) (Y := YX2_goesLine) fF1012 (by decide) q1649 (Or.inl rfl) dX2_goesLine_160) (fun v50 => ?_)
      refine im (go_iconst (pc := 163) (Y := YX2_goesLine) (v := 4) dX2_goesLine_163 rfl) ?_
      refine im (go_dup2 (pc := 164) (Y := YX2_goesLine) dX2_goesLine_164 rfl rfl) ?_
      refine flp (go_lI1 (pc := 165) (Y := YX2_goesLine) dX2_goesLine_165) (fun v51 => ?_)
      refine im (go_iconst (pc := 166) (Y := YX2_goesLine) (v := 1) dX2_goesLine_166 rfl) ?_
      refine im (go_iadd (pc := 167) (Y := YX2_goesLine) dX2_goesLine_167) ?_
      refine flp (go_tI (pc := 168) (Y := YX2_goesLine) dX2_goesLine_168) (fun s52 => ?_)
      refine e1 (fun q0 => ?_)
      subst q0
      exact go_vret (pc := 169) (Y := YX2_goesLine) rfl dX2_goesLine_169
    · refine e1 (fun q0 => ?_)
      subst q0
      exact go_vret (pc := 132) (Y := YX2_goesLine) rfl dX2_goesLine_132
  · refine e1 (fun q0 => ?_)
    subst q0
    exact go_vret (pc := 7) (Y := YX2_goesLine) rfl dX2_goesLine_7
abbrev YX2_quarrelLine : mY := (RX2, cX2_quarrelLine, 7, (Option.none : Option Jvm.ClassFile.FieldType), 9, 192, false)
theorem YOK_X2_quarrelLine : YOK yX2_quarrelLine 0 := ⟨⟨by decide +kernel, by decide +kernel⟩, by decide +kernel⟩
theorem mX2_quarrelLine {G : gG} (s0 : St) {this : Nat} {sE : St} (h : sX2_quarrelLine s0 this = some sE) : Mt G YX2_quarrelLine yX2_quarrelLine [rV (some this)] s0 none sE := by
  refine go_start (ls0 := [(0, rV (some this))]) (by decide +kernel) rfl (fun h => by cases h) (Nat.le_of_ble_eq_true rfl) rfl ?_
  revert h
  unfold sX2_quarrelLine
  refine im (go_aload_n (pc := 0) (Y := YX2_quarrelLine) 0 dX2_quarrelLine_0 rfl rfl) ?_
  refine flp (go_gI (pc := 1) (Y := YX2_quarrelLine) fF30 (by decide) q1646 (Or.inl rfl) dX2_quarrelLine_1) (fun v1 => ?_)
  refine flp2 (go_if_eq (pc := 4) (Y := YX2_quarrelLine) 8 dX2_quarrelLine_4 (by decide)) ?_ ?_
  · refine im (go_bipush (pc := 8) (Y := YX2_quarrelLine) (v := 80) dX2_quarrelLine_8 rfl) ?_
    refine im (go_iconst (pc := 10) (Y := YX2_quarrelLine) (v := 5) dX2_quarrelLine_10 rfl) ?_
    refine im (go_aload_n (pc := 11) (Y := YX2_quarrelLine) 0 dX2_quarrelLine_11 rfl rfl) ?_
    refine flp (go_gR (pc := 12) (Y := YX2_quarrelLine) fF1012 (by decide) q1649 (Or.inl rfl) dX2_quarrelLine_12) (fun v2 => ?_)
    refine im (go_iconst (pc := 15) (Y := YX2_quarrelLine) (v := 5) dX2_quarrelLine_15 rfl) ?_
    refine flp (go_lI1 (pc := 16) (Y := YX2_quarrelLine) dX2_quarrelLine_16) (fun v3 => ?_)
    refine im (go_imul (pc := 17) (Y := YX2_quarrelLine) dX2_quarrelLine_17) ?_
    refine im (go_iadd (pc := 18) (Y := YX2_quarrelLine) dX2_quarrelLine_18) ?_
    refine im (go_istore_n (pc := 19) (Y := YX2_quarrelLine) (ls2 := [(1, iV (80 + (5 * v3))), (0, rV (some this))]) dX2_quarrelLine_19 rfl (Nat.le_of_ble_eq_true rfl) rfl) ?_
    refine im (go_aload_n (pc := 20) (Y := YX2_quarrelLine) 1 dX2_quarrelLine_20 rfl rfl) ?_
    refine im (go_bipush (pc := 21) (Y := YX2_quarrelLine) (v := 12) dX2_quarrelLine_21 rfl) ?_
    refine im (go_aload_n (pc := 23) (Y := YX2_quarrelLine) 1 dX2_quarrelLine_23 rfl rfl) ?_
    refine flp (go_gR (pc := 24) (Y := YX2_quarrelLine) fF1012 (by decide) q1649 (Or.inl rfl) dX2_quarrelLine_24) (fun v4 => ?_)
    refine im (go_iconst (pc := 27) (Y := YX2_quarrelLine) (v := 5) dX2_quarrelLine_27 rfl) ?_
    refine flp (go_lI1 (pc := 28) (Y := YX2_quarrelLine) dX2_quarrelLine_28) (fun v5 => ?_)
    refine im (go_iadd (pc := 29) (Y := YX2_quarrelLine) dX2_quarrelLine_29) ?_
    refine kdg (fun k6 => ?_)
    refine bpg (fun s7 he8 => ?_)
    refine im (go_callV (pc := 30) (Y := YX2_quarrelLine) (Yc := YX2_newName) (y := yX2_newName) (n := 1) (c0 := 2) (q := (RX2, TX2, 37)) this [iV (12 + v5)] [] rfl rfl k6 (mX2_newName s0 he8) YOK_X2_newName rfl q1855 q133 q1854 qs82 q1852 (Nat.le_of_ble_eq_true rfl) (Nat.le_of_ble_eq_true rfl) (Nat.le_of_ble_eq_true rfl) dX2_quarrelLine_30 (st2 := []) rfl) ?_
    clear he8
    refine im (go_aload_n (pc := 33) (Y := YX2_quarrelLine) 1 dX2_quarrelLine_33 rfl rfl) ?_
    refine kdg (fun k9 => ?_)
    refine bdg (fun s10 v11 he12 => ?_)
    refine im (go_callV (pc := 34) (Y := YX2_quarrelLine) (Yc := YX2_personHere) (y := yX2_personHere) (n := 0) (c0 := 2) (q := (RX2, TX2, 37)) this [] [] rfl rfl k9 (mX2_personHere s7 he12) YOK_X2_personHere rfl q1904 q133 q1903 qs91 q1901 (Nat.le_of_ble_eq_true rfl) (Nat.le_of_ble_eq_true rfl) (Nat.le_of_ble_eq_true rfl) dX2_quarrelLine_34 (st2 := [iV v11]) rfl) ?_
    clear he12
    refine im (go_istore_n (pc := 37) (Y := YX2_quarrelLine) (ls2 := [(2, iV v11), (1, iV (80 + (5 * v3))), (0, rV (some this))]) dX2_quarrelLine_37 rfl (Nat.le_of_ble_eq_true rfl) rfl) ?_
    refine im (go_aload_n (pc := 38) (Y := YX2_quarrelLine) 2 dX2_quarrelLine_38 rfl rfl) ?_
    refine kdg (fun k13 => ?_)
    refine bpg (fun s14 he15 => ?_)
    refine im (go_callV (pc := 39) (Y := YX2_quarrelLine) (Yc := YX2_pass) (y := yX2_pass) (n := 0) (c0 := 2) (q := (RX2, TX2, 37)) this [] [] rfl rfl k13 (mX2_pass s10 he15) YOK_X2_pass rfl q1842 q133 q1841 qs79 q1839 (Nat.le_of_ble_eq_true rfl) (Nat.le_of_ble_eq_true rfl) (Nat.le_of_ble_eq_true rfl) dX2_quarrelLine_39 (st2 := []) rfl) ?_
    clear he15
    refine im (go_aload_n (pc := 42) (Y := YX2_quarrelLine) 2 dX2_quarrelLine_42 rfl rfl) ?_
    refine kdg (fun k16 => ?_)
    refine bdg (fun s17 v18 he19 => ?_)
    refine im (go_callV (pc := 43) (Y := YX2_quarrelLine) (Yc := YX2_personHere) (y := yX2_personHere) (n := 0) (c0 := 2) (q := (RX2, TX2, 37)) this [] [] rfl rfl k16 (mX2_personHere s14 he19) YOK_X2_personHere rfl q1904 q133 q1903 qs91 q1901 (Nat.le_of_ble_eq_true rfl) (Nat.le_of_ble_eq_true rfl) (Nat.le_of_ble_eq_true rfl) dX2_quarrelLine_43 (st2 := [iV v18]) rfl) ?_
    clear he19
    refine im (go_istore_n (pc := 46) (Y := YX2_quarrelLine) (ls2 := [(3, iV v18), (2, iV v11), (1, iV (80 + (5 * v3))), (0, rV (some this))]) dX2_quarrelLine_46 rfl (Nat.le_of_ble_eq_true rfl) rfl) ?_
    refine im (go_aload_n (pc := 47) (Y := YX2_quarrelLine) 3 dX2_quarrelLine_47 rfl rfl) ?_
    refine flp (go_gI (pc := 48) (Y := YX2_quarrelLine) fF30 (by decide) q1646 (Or.inl rfl) dX2_quarrelLine_48) (fun v20 => ?_)
    refine bpg (fun s21 he58 h59 => ?_)
    have hj68 : Go G YX2_quarrelLine s0 sE none 68 [(0, rV (some this)), (1, iV (80 + (5 * v3))), (2, iV v11), (3, iV v18)] [] s21 := by
      clear he58
      revert h59
      refine im (go_aload_n (pc := 68) (Y := YX2_quarrelLine) 0 dX2_quarrelLine_68 rfl rfl) ?_
      refine kdg (fun k22 => ?_)
      refine bpg (fun s23 he24 => ?_)
      refine im (go_callV (pc := 69) (Y := YX2_quarrelLine) (Yc := YX2_pass) (y := yX2_pass) (n := 0) (c0 := 2) (q := (RX2, TX2, 37)) this [] [] rfl rfl k22 (mX2_pass s21 he24) YOK_X2_pass rfl q1842 q133 q1841 qs79 q1839 (Nat.le_of_ble_eq_true rfl) (Nat.le_of_ble_eq_true rfl) (Nat.le_of_ble_eq_true rfl) dX2_quarrelLine_69 (st2 := []) rfl) ?_
      clear he24
      refine im (go_aload_n (pc := 72) (Y := YX2_quarrelLine) 0 dX2_quarrelLine_72 rfl rfl) ?_
      refine im (go_ldcS (pc := 73) (Y := YX2_quarrelLine) (idx := 237) (i := 1) (tx := "at") (by decide +kernel) dX2_quarrelLine_73) ?_
      refine kdg (fun k25 => ?_)
      refine bpg (fun s26 he27 => ?_)
      refine im (go_callV (pc := 75) (Y := YX2_quarrelLine) (Yc := YX2_must) (y := yX2_must) (n := 1) (c0 := 2) (q := (RX2, TX2, 37)) this [rV (s23.ks 1)] [] rfl rfl k25 (mX2_must s23 he27) YOK_X2_must rfl q1826 q133 q1825 qs75 q1823 (Nat.le_of_ble_eq_true rfl) (Nat.le_of_ble_eq_true rfl) (Nat.le_of_ble_eq_true rfl) dX2_quarrelLine_75 (st2 := []) rfl) ?_
      clear he27
      refine im (go_aload_n (pc := 78) (Y := YX2_quarrelLine) 0 dX2_quarrelLine_78 rfl rfl) ?_
      refine kdg (fun k28 => ?_)
      refine bdg (fun s29 v30 he31 => ?_)
      refine im (go_callV (pc := 79) (Y := YX2_quarrelLine) (Yc := YX2_placePassed) (y := yX2_placePassed) (n := 0) (c0 := 2) (q := (RX2, TX2, 37)) this [] [] rfl rfl k28 (mX2_placePassed s26 he31) YOK_X2_placePassed rfl q1878 q133 q1877 qs86 q1875 (Nat.le_of_ble_eq_true rfl) (Nat.le_of_ble_eq_true rfl) (Nat.le_of_ble_eq_true rfl) dX2_quarrelLine_79 (st2 := [iV v30]) rfl) ?_
      clear he31
      refine im (go_istore (pc := 82) (Y := YX2_quarrelLine) (ls2 := [(4, iV v30), (0, rV (some this)), (1, iV (80 + (5 * v3))), (2, iV v11), (3, iV v18)]) dX2_quarrelLine_82 (Nat.le_of_ble_eq_true rfl) rfl) ?_
      refine im (go_aload_n (pc := 84) (Y := YX2_quarrelLine) 1 dX2_quarrelLine_84 rfl rfl) ?_
      refine im (go_ldcS (pc := 85) (Y := YX2_quarrelLine) (idx := 243) (i := 8) (tx := "from") (by decide +kernel) dX2_quarrelLine_85) ?_
      refine im (go_iconst (pc := 87) (Y := YX2_quarrelLine) (v := 0) dX2_quarrelLine_87 rfl) ?_
      refine im (go_bipush (pc := 88) (Y := YX2_quarrelLine) (v := 59) dX2_quarrelLine_88 rfl) ?_
      refine kdg (fun k32 => ?_)
      refine bdg (fun s33 v34 he35 => ?_)
      refine im (go_callV (pc := 90) (Y := YX2_quarrelLine) (Yc := YX2_after) (y := yX2_after) (n := 3) (c0 := 2) (q := (RX2, TX2, 37)) this [rV (s29.ks 8), iV 0, iV 59] [] rfl rfl k32 (mX2_after s29 he35) YOK_X2_after rfl q1822 q133 q1821 qs74 q1819 (Nat.le_of_ble_eq_true rfl) (Nat.le_of_ble_eq_true rfl) (Nat.le_of_ble_eq_true rfl) dX2_quarrelLine_90 (st2 := [iV v34]) rfl) ?_
      clear he35
      refine im (go_istore (pc := 93) (Y := YX2_quarrelLine) (ls2 := [(5, iV v34), (4, iV v30), (0, rV (some this)), (1, iV (80 + (5 * v3))), (2, iV v11), (3, iV v18)]) dX2_quarrelLine_93 (Nat.le_of_ble_eq_true rfl) rfl) ?_
      refine im (go_aload_n (pc := 95) (Y := YX2_quarrelLine) 2 dX2_quarrelLine_95 rfl rfl) ?_
      refine im (go_ldcS (pc := 96) (Y := YX2_quarrelLine) (idx := 245) (i := 11) (tx := "needs") (by decide +kernel) dX2_quarrelLine_96) ?_
      refine im (go_iconst (pc := 98) (Y := YX2_quarrelLine) (v := 1) dX2_quarrelLine_98 rfl) ?_
      refine im (go_bipush (pc := 99) (Y := YX2_quarrelLine) (v := 99) dX2_quarrelLine_99 rfl) ?_
      refine kdg (fun k36 => ?_)
      refine bdg (fun s37 v38 he39 => ?_)
      refine im (go_callV (pc := 101) (Y := YX2_quarrelLine) (Yc := YX2_after) (y := yX2_after) (n := 3) (c0 := 2) (q := (RX2, TX2, 37)) this [rV (s33.ks 11), iV 1, iV 99] [] rfl rfl k36 (mX2_after s33 he39) YOK_X2_after rfl q1822 q133 q1821 qs74 q1819 (Nat.le_of_ble_eq_true rfl) (Nat.le_of_ble_eq_true rfl) (Nat.le_of_ble_eq_true rfl) dX2_quarrelLine_101 (st2 := [iV v38]) rfl) ?_
      clear he39
      refine im (go_istore (pc := 104) (Y := YX2_quarrelLine) (ls2 := [(6, iV v38), (5, iV v34), (4, iV v30), (0, rV (some this)), (1, iV (80 + (5 * v3))), (2, iV v11), (3, iV v18)]) dX2_quarrelLine_104 (Nat.le_of_ble_eq_true rfl) rfl) ?_
      refine im (go_aload_n (pc := 106) (Y := YX2_quarrelLine) 3 dX2_quarrelLine_106 rfl rfl) ?_
      refine flp (go_gI (pc := 107) (Y := YX2_quarrelLine) fF30 (by decide) q1646 (Or.inl rfl) dX2_quarrelLine_107) (fun v40 => ?_)
      refine flp2 (go_if_eq (pc := 110) (Y := YX2_quarrelLine) 114 dX2_quarrelLine_110 (by decide)) ?_ ?_
      · refine im (go_aload_n (pc := 114) (Y := YX2_quarrelLine) 3 dX2_quarrelLine_114 rfl rfl) ?_
        refine flp (go_gR (pc := 115) (Y := YX2_quarrelLine) fF1012 (by decide) q1649 (Or.inl rfl) dX2_quarrelLine_115) (fun v41 => ?_)
        refine im (go_iload_n (pc := 118) (Y := YX2_quarrelLine) 4 dX2_quarrelLine_118 rfl rfl) ?_
        refine im (go_iload_n (pc := 119) (Y := YX2_quarrelLine) 5 dX2_quarrelLine_119 rfl rfl) ?_
        refine flp (go_tI (pc := 120) (Y := YX2_quarrelLine) dX2_quarrelLine_120) (fun s42 => ?_)
        refine im (go_aload_n (pc := 121) (Y := YX2_quarrelLine) 3 dX2_quarrelLine_121 rfl rfl) ?_
        refine flp (go_gR (pc := 122) (Y := YX2_quarrelLine) fF1012 (by decide) q1649 (Or.inl rfl) dX2_quarrelLine_122) (fun v43 => ?_)
        refine im (go_iload_n (pc := 125) (Y := YX2_quarrelLine) 4 dX2_quarrelLine_125 rfl rfl) ?_
        refine im (go_iconst (pc := 126) (Y := YX2_quarrelLine) (v := 1) dX2_quarrelLine_126 rfl) ?_
        refine im (go_iadd (pc := 127) (Y := YX2_quarrelLine) dX2_quarrelLine_127) ?_
        refine im (go_iload_n (pc := 128) (Y := YX2_quarrelLine) 6 dX2_quarrelLine_128 rfl rfl) ?_
        refine flp (go_tI (pc := 129) (Y := YX2_quarrelLine) dX2_quarrelLine_129) (fun s44 => ?_)
        refine im (go_aload_n (pc := 130) (Y := YX2_quarrelLine) 3 dX2_quarrelLine_130 rfl rfl) ?_
        refine flp (go_gR (pc := 131) (Y := YX2_quarrelLine) fF1012 (by decide) q1649 (Or.inl rfl) dX2_quarrelLine_131) (fun v45 => ?_)
        refine im (go_iload_n (pc := 134) (Y := YX2_quarrelLine) 4 dX2_quarrelLine_134 rfl rfl) ?_
        refine im (go_iconst (pc := 135) (Y := YX2_quarrelLine) (v := 2) dX2_quarrelLine_135 rfl) ?_
        refine im (go_iadd (pc := 136) (Y := YX2_quarrelLine) dX2_quarrelLine_136) ?_
        refine im (go_iload (pc := 137) (Y := YX2_quarrelLine) 2 dX2_quarrelLine_137 rfl) ?_
        refine flp (go_tI (pc := 139) (Y := YX2_quarrelLine) dX2_quarrelLine_139) (fun s46 => ?_)
        refine im (go_aload_n (pc := 140) (Y := YX2_quarrelLine) 3 dX2_quarrelLine_140 rfl rfl) ?_
        refine flp (go_gR (pc := 141) (Y := YX2_quarrelLine) fF1012 (by decide) q1649 (Or.inl rfl) dX2_quarrelLine_141) (fun v47 => ?_)
        refine im (go_iload_n (pc := 144) (Y := YX2_quarrelLine) 4 dX2_quarrelLine_144 rfl rfl) ?_
        refine im (go_iconst (pc := 145) (Y := YX2_quarrelLine) (v := 3) dX2_quarrelLine_145 rfl) ?_
        refine im (go_iadd (pc := 146) (Y := YX2_quarrelLine) dX2_quarrelLine_146) ?_
        refine im (go_iload (pc := 147) (Y := YX2_quarrelLine) 1 dX2_quarrelLine_147 rfl) ?_
        refine flp (go_tI (pc := 149) (Y := YX2_quarrelLine) dX2_quarrelLine_149) (fun s48 => ?_)
        refine im (go_aload_n (pc := 150) (Y := YX2_quarrelLine) 3 dX2_quarrelLine_150 rfl rfl) ?_
        refine flp (go_gR (pc := 151) (Y := YX2_quarrelLine) fF1012 (by decide) q1649 (Or.inl rfl) dX2_quarrelLine_151) (fun v49 => ?_)
        refine im (go_iload_n (pc := 154) (Y := YX2_quarrelLine) 4 dX2_quarrelLine_154 rfl rfl) ?_
        refine im (go_iconst (pc := 155) (Y := YX2_quarrelLine) (v := 4) dX2_quarrelLine_155 rfl) ?_
        refine im (go_iadd (pc := 156) (Y := YX2_quarrelLine) dX2_quarrelLine_156) ?_
        refine im (go_iload (pc := 157) (Y := YX2_quarrelLine) 0 dX2_quarrelLine_157 rfl) ?_
        refine flp (go_tI (pc := 159) (Y := YX2_quarrelLine) dX2_quarrelLine_159) (fun s50 => ?_)
        refine im (go_aload_n (pc := 160) (Y := YX2_quarrelLine) 3 dX2_quarrelLine_160 rfl rfl) ?_
        refine flp (go_gR (pc := 161) (Y := YX2_quarrelLine) fF1012 (by decide) q1649 (Or.inl rfl) dX2_quarrelLine_161) (fun v51 => ?_)
        refine im (go_iconst (pc := 164) (Y := YX2_quarrelLine) (v := 5) dX2_quarrelLine_164 rfl) ?_
        refine im (go_dup2 (pc := 165) (Y := YX2_quarrelLine) dX2_quarrelLine_165 rfl rfl) ?_
        refine flp (go_lI1 (pc := 166) (Y := YX2_quarrelLine) dX2_quarrelLine_166) (fun v52 => ?_)
        refine im (go_iconst (pc := 167) (Y := YX2_quarrelLine) (v := 1) dX2_quarrelLine_167 rfl) ?_
        refine im (go_iadd (pc := 168) (Y := YX2_quarrelLine) dX2_quarrelLine_168) ?_
        refine flp (go_tI (pc := 169) (Y := YX2_quarrelLine) dX2_quarrelLine_169) (fun s53 => ?_)
        refine e1 (fun q0 => ?_)
        subst q0
        exact go_vret (pc := 170) (Y := YX2_quarrelLine) rfl dX2_quarrelLine_170
      · refine e1 (fun q0 => ?_)
        subst q0
        exact go_vret (pc := 113) (Y := YX2_quarrelLine) rfl dX2_quarrelLine_113
    clear h59
    revert he58
    refine flp2 (go_if_ne (pc := 51) (Y := YX2_quarrelLine) 68 dX2_quarrelLine_51 (by decide)) ?_ ?_
    · refine im (go_iload_n (pc := 54) (Y := YX2_quarrelLine) 1 dX2_quarrelLine_54 rfl rfl) ?_
      refine im (go_iload_n (pc := 55) (Y := YX2_quarrelLine) 0 dX2_quarrelLine_55 rfl rfl) ?_
      refine flp2 (go_icmp_ne (pc := 56) (Y := YX2_quarrelLine) 68 dX2_quarrelLine_56 (by decide)) ?_ ?_
      · refine im (go_aload_n (pc := 59) (Y := YX2_quarrelLine) 3 dX2_quarrelLine_59 rfl rfl) ?_
        refine im (go_iconst (pc := 60) (Y := YX2_quarrelLine) (v := 3) dX2_quarrelLine_60 rfl) ?_
        refine im (go_aload_n (pc := 61) (Y := YX2_quarrelLine) 3 dX2_quarrelLine_61 rfl rfl) ?_
        refine flp (go_gI (pc := 62) (Y := YX2_quarrelLine) fF22 (by decide) q1637 (Or.inl rfl) dX2_quarrelLine_62) (fun v54 => ?_)
        refine kdg (fun k55 => ?_)
        refine bpg (fun s56 he57 => ?_)
        refine im (go_callV (pc := 65) (Y := YX2_quarrelLine) (Yc := YX2_wrong) (y := yX2_wrong) (n := 2) (c0 := 2) (q := (RX2, TX2, 37)) this [iV 3, iV v54] [] rfl rfl k55 (mX2_wrong s17 he57) YOK_X2_wrong rfl q1817 q133 q1816 qs73 q1814 (Nat.le_of_ble_eq_true rfl) (Nat.le_of_ble_eq_true rfl) (Nat.le_of_ble_eq_true rfl) dX2_quarrelLine_65 (st2 := []) rfl) ?_
        clear he57
        refine e1 (fun q0 => ?_)
        subst q0
        exact go_sub [3, 2, 1, 0] rfl hj68
      · refine e1 (fun q0 => ?_)
        subst q0
        exact go_sub [3, 2, 1, 0] rfl hj68
    · refine e1 (fun q0 => ?_)
      subst q0
      exact go_sub [3, 2, 1, 0] rfl hj68
  · refine e1 (fun q0 => ?_)
    subst q0
    exact go_vret (pc := 7) (Y := YX2_quarrelLine) rfl dX2_quarrelLine_7
abbrev YX2_hireLine : mY := (RX2, cX2_hireLine, 3, (Option.none : Option Jvm.ClassFile.FieldType), 8, 173, false)
theorem YOK_X2_hireLine : YOK yX2_hireLine 0 := ⟨⟨by decide +kernel, by decide +kernel⟩, by decide +kernel⟩
theorem mX2_hireLine {G : gG} (s0 : St) {this : Nat} {sE : St} (h : sX2_hireLine s0 this = some sE) : Mt G YX2_hireLine yX2_hireLine [rV (some this)] s0 none sE := by
  refine go_start (ls0 := [(0, rV (some this))]) (by decide +kernel) rfl (fun h => by cases h) (Nat.le_of_ble_eq_true rfl) rfl ?_
  revert h
  unfold sX2_hireLine
  refine im (go_aload_n (pc := 0) (Y := YX2_hireLine) 0 dX2_hireLine_0 rfl rfl) ?_
  refine kdg (fun k1 => ?_)
  refine bdg (fun s2 v3 he4 => ?_)
  refine im (go_callV (pc := 1) (Y := YX2_hireLine) (Yc := YX2_personHere) (y := yX2_personHere) (n := 0) (c0 := 2) (q := (RX2, TX2, 37)) this [] [] rfl rfl k1 (mX2_personHere s0 he4) YOK_X2_personHere rfl q1904 q133 q1903 qs91 q1901 (Nat.le_of_ble_eq_true rfl) (Nat.le_of_ble_eq_true rfl) (Nat.le_of_ble_eq_true rfl) dX2_hireLine_1 (st2 := [iV v3]) rfl) ?_
  clear he4
  refine im (go_istore_n (pc := 4) (Y := YX2_hireLine) (ls2 := [(1, iV v3), (0, rV (some this))]) dX2_hireLine_4 rfl (Nat.le_of_ble_eq_true rfl) rfl) ?_
  refine im (go_aload_n (pc := 5) (Y := YX2_hireLine) 1 dX2_hireLine_5 rfl rfl) ?_
  refine flp (go_gI (pc := 6) (Y := YX2_hireLine) fF30 (by decide) q1646 (Or.inl rfl) dX2_hireLine_6) (fun v5 => ?_)
  refine bpg (fun s6 he26 h27 => ?_)
  have hj37 : Go G YX2_hireLine s0 sE none 37 [(0, rV (some this)), (1, iV v3)] [] s6 := by
    clear he26
    revert h27
    refine im (go_aload_n (pc := 37) (Y := YX2_hireLine) 0 dX2_hireLine_37 rfl rfl) ?_
    refine kdg (fun k7 => ?_)
    refine bpg (fun s8 he9 => ?_)
    refine im (go_callV (pc := 38) (Y := YX2_hireLine) (Yc := YX2_pass) (y := yX2_pass) (n := 0) (c0 := 2) (q := (RX2, TX2, 37)) this [] [] rfl rfl k7 (mX2_pass s6 he9) YOK_X2_pass rfl q1842 q133 q1841 qs79 q1839 (Nat.le_of_ble_eq_true rfl) (Nat.le_of_ble_eq_true rfl) (Nat.le_of_ble_eq_true rfl) dX2_hireLine_38 (st2 := []) rfl) ?_
    clear he9
    refine im (go_aload_n (pc := 41) (Y := YX2_hireLine) 0 dX2_hireLine_41 rfl rfl) ?_
    refine im (go_ldcS (pc := 42) (Y := YX2_hireLine) (idx := 247) (i := 7) (tx := "fo\x72") (by decide +kernel) dX2_hireLine_42) ?_
    refine im (go_iconst (pc := 44) (Y := YX2_hireLine) (v := 0) dX2_hireLine_44 rfl) ?_
    refine im (go_bipush (pc := 45) (Y := YX2_hireLine) (v := 20) dX2_hireLine_45 rfl) ?_
    refine kdg (fun k10 => ?_)
    refine bdg (fun s11 v12 he13 => ?_)
    refine im (go_callV (pc := 47) (Y := YX2_hireLine) (Yc := YX2_after) (y := yX2_after) (n := 3) (c0 := 2) (q := (RX2, TX2, 37)) this [rV (s8.ks 7), iV 0, iV 20] [] rfl rfl k10 (mX2_after s8 he13) YOK_X2_after rfl q1822 q133 q1821 qs74 q1819 (Nat.le_of_ble_eq_true rfl) (Nat.le_of_ble_eq_true rfl) (Nat.le_of_ble_eq_true rfl) dX2_hireLine_47 (st2 := [iV v12]) rfl) ?_
    clear he13
    refine im (go_istore_n (pc := 50) (Y := YX2_hireLine) (ls2 := [(2, iV v12), (0, rV (some this)), (1, iV v3)]) dX2_hireLine_50 rfl (Nat.le_of_ble_eq_true rfl) rfl) ?_
    refine im (go_aload_n (pc := 51) (Y := YX2_hireLine) 1 dX2_hireLine_51 rfl rfl) ?_
    refine flp (go_gI (pc := 52) (Y := YX2_hireLine) fF30 (by decide) q1646 (Or.inl rfl) dX2_hireLine_52) (fun v14 => ?_)
    refine flp2 (go_if_eq (pc := 55) (Y := YX2_hireLine) 59 dX2_hireLine_55 (by decide)) ?_ ?_
    · refine im (go_aload_n (pc := 59) (Y := YX2_hireLine) 1 dX2_hireLine_59 rfl rfl) ?_
      refine flp (go_gR (pc := 60) (Y := YX2_hireLine) fF1012 (by decide) q1649 (Or.inl rfl) dX2_hireLine_60) (fun v15 => ?_)
      refine im (go_bipush (pc := 63) (Y := YX2_hireLine) (v := 26) dX2_hireLine_63 rfl) ?_
      refine im (go_iconst (pc := 65) (Y := YX2_hireLine) (v := 4) dX2_hireLine_65 rfl) ?_
      refine im (go_iload_n (pc := 66) (Y := YX2_hireLine) 2 dX2_hireLine_66 rfl rfl) ?_
      refine im (go_imul (pc := 67) (Y := YX2_hireLine) dX2_hireLine_67) ?_
      refine im (go_iadd (pc := 68) (Y := YX2_hireLine) dX2_hireLine_68) ?_
      refine im (go_iconst (pc := 69) (Y := YX2_hireLine) (v := 3) dX2_hireLine_69 rfl) ?_
      refine im (go_iadd (pc := 70) (Y := YX2_hireLine) dX2_hireLine_70) ?_
      refine im (go_iload_n (pc := 71) (Y := YX2_hireLine) 0 dX2_hireLine_71 rfl rfl) ?_
      refine im (go_iconst (pc := 72) (Y := YX2_hireLine) (v := 1) dX2_hireLine_72 rfl) ?_
      refine im (go_iadd (pc := 73) (Y := YX2_hireLine) dX2_hireLine_73) ?_
      refine flp (go_tI (pc := 74) (Y := YX2_hireLine) dX2_hireLine_74) (fun s16 => ?_)
      refine im (go_aload_n (pc := 75) (Y := YX2_hireLine) 1 dX2_hireLine_75 rfl rfl) ?_
      refine flp (go_gR (pc := 76) (Y := YX2_hireLine) fF1012 (by decide) q1649 (Or.inl rfl) dX2_hireLine_76) (fun v17 => ?_)
      refine im (go_bipush (pc := 79) (Y := YX2_hireLine) (v := 6) dX2_hireLine_79 rfl) ?_
      refine im (go_dup2 (pc := 81) (Y := YX2_hireLine) dX2_hireLine_81 rfl rfl) ?_
      refine flp (go_lI1 (pc := 82) (Y := YX2_hireLine) dX2_hireLine_82) (fun v18 => ?_)
      refine im (go_iconst (pc := 83) (Y := YX2_hireLine) (v := 1) dX2_hireLine_83 rfl) ?_
      refine im (go_iadd (pc := 84) (Y := YX2_hireLine) dX2_hireLine_84) ?_
      refine flp (go_tI (pc := 85) (Y := YX2_hireLine) dX2_hireLine_85) (fun s19 => ?_)
      refine e1 (fun q0 => ?_)
      subst q0
      exact go_vret (pc := 86) (Y := YX2_hireLine) rfl dX2_hireLine_86
    · refine e1 (fun q0 => ?_)
      subst q0
      exact go_vret (pc := 58) (Y := YX2_hireLine) rfl dX2_hireLine_58
  clear h27
  revert he26
  refine flp2 (go_if_ne (pc := 9) (Y := YX2_hireLine) 37 dX2_hireLine_9 (by decide)) ?_ ?_
  · refine im (go_aload_n (pc := 12) (Y := YX2_hireLine) 1 dX2_hireLine_12 rfl rfl) ?_
    refine flp (go_gR (pc := 13) (Y := YX2_hireLine) fF1012 (by decide) q1649 (Or.inl rfl) dX2_hireLine_13) (fun v20 => ?_)
    refine im (go_bipush (pc := 16) (Y := YX2_hireLine) (v := 26) dX2_hireLine_16 rfl) ?_
    refine im (go_iconst (pc := 18) (Y := YX2_hireLine) (v := 4) dX2_hireLine_18 rfl) ?_
    refine im (go_iload_n (pc := 19) (Y := YX2_hireLine) 0 dX2_hireLine_19 rfl rfl) ?_
    refine im (go_imul (pc := 20) (Y := YX2_hireLine) dX2_hireLine_20) ?_
    refine im (go_iadd (pc := 21) (Y := YX2_hireLine) dX2_hireLine_21) ?_
    refine im (go_iconst (pc := 22) (Y := YX2_hireLine) (v := 3) dX2_hireLine_22 rfl) ?_
    refine im (go_iadd (pc := 23) (Y := YX2_hireLine) dX2_hireLine_23) ?_
    refine flp (go_lI1 (pc := 24) (Y := YX2_hireLine) dX2_hireLine_24) (fun v21 => ?_)
    refine flp2 (go_if_le (pc := 25) (Y := YX2_hireLine) 37 dX2_hireLine_25 (by decide)) ?_ ?_
    · refine e1 (fun q0 => ?_)
      subst q0
      exact go_sub [1, 0] rfl hj37
    · refine im (go_aload_n (pc := 28) (Y := YX2_hireLine) 1 dX2_hireLine_28 rfl rfl) ?_
      refine im (go_iconst (pc := 29) (Y := YX2_hireLine) (v := 3) dX2_hireLine_29 rfl) ?_
      refine im (go_aload_n (pc := 30) (Y := YX2_hireLine) 1 dX2_hireLine_30 rfl rfl) ?_
      refine flp (go_gI (pc := 31) (Y := YX2_hireLine) fF22 (by decide) q1637 (Or.inl rfl) dX2_hireLine_31) (fun v22 => ?_)
      refine kdg (fun k23 => ?_)
      refine bpg (fun s24 he25 => ?_)
      refine im (go_callV (pc := 34) (Y := YX2_hireLine) (Yc := YX2_wrong) (y := yX2_wrong) (n := 2) (c0 := 2) (q := (RX2, TX2, 37)) this [iV 3, iV v22] [] rfl rfl k23 (mX2_wrong s2 he25) YOK_X2_wrong rfl q1817 q133 q1816 qs73 q1814 (Nat.le_of_ble_eq_true rfl) (Nat.le_of_ble_eq_true rfl) (Nat.le_of_ble_eq_true rfl) dX2_hireLine_34 (st2 := []) rfl) ?_
      clear he25
      refine e1 (fun q0 => ?_)
      subst q0
      exact go_sub [1, 0] rfl hj37
  · refine e1 (fun q0 => ?_)
    subst q0
    exact go_sub [1, 0] rfl hj37
abbrev YX2_unsureLine : mY := (RX2, cX2_unsureLine, 4, (Option.none : Option Jvm.ClassFile.FieldType), 8, 171, false)
theorem YOK_X2_unsureLine : YOK yX2_unsureLine 0 := ⟨⟨by decide +kernel, by decide +kernel⟩, by decide +kernel⟩
theorem sX2_unsureLine_L28_go {G : gG} {s0 sE : St} {rE : Option V3} (this : Nat) (i1 : Int32) (i2 : Int32) : ∀ (n : Nat) (s8 : St) (v9 : Int32) (s10 : St), sX2_unsureLine_L28 this i2 n s8 v9 = some s10 → Go G YX2_unsureLine s0 sE rE 76 [(0, rV (some this)), (1, iV i1), (2, iV i2)] [] s10 → Go G YX2_unsureLine s0 sE rE 28 [(0, rV (some this)), (1, iV i1), (2, iV i2), (3, iV v9)] [] s8 := by
  intro n
  induction n with
  | zero => intro s8 v9 s10 h hx; rw [sX2_unsureLine_L28] at h; cases h
  | succ n ih =>
    intro s8 v9 s10 h hx
    revert h
    rw [sX2_unsureLine_L28]
    refine im (go_iload_n (pc := 28) (Y := YX2_unsureLine) 3 dX2_unsureLine_28 rfl rfl) ?_
    refine im (go_aload_n (pc := 29) (Y := YX2_unsureLine) 0 dX2_unsureLine_29 rfl rfl) ?_
    refine flp (go_gR (pc := 30) (Y := YX2_unsureLine) fF1012 (by decide) q1649 (Or.inl rfl) dX2_unsureLine_30) (fun v11 => ?_)
    refine im (go_bipush (pc := 33) (Y := YX2_unsureLine) (v := 7) dX2_unsureLine_33 rfl) ?_
    refine flp (go_lI1 (pc := 35) (Y := YX2_unsureLine) dX2_unsureLine_35) (fun v12 => ?_)
    refine flp2 (go_icmp_ge (pc := 36) (Y := YX2_unsureLine) 76 dX2_unsureLine_36 (by decide)) ?_ ?_
    · refine e1 (fun q0 => ?_)
      subst q0
      exact go_sub [0, 1, 2] rfl hx
    · refine im (go_aload_n (pc := 39) (Y := YX2_unsureLine) 0 dX2_unsureLine_39 rfl rfl) ?_
      refine flp (go_gI (pc := 40) (Y := YX2_unsureLine) fF30 (by decide) q1646 (Or.inl rfl) dX2_unsureLine_40) (fun v13 => ?_)
      refine bpg (fun s14 he21 h22 => ?_)
      have hj70 : Go G YX2_unsureLine s0 sE rE 70 [(0, rV (some this)), (1, iV i1), (2, iV i2), (3, iV v9)] [] s14 := by
        clear he21
        revert h22
        refine im (go_iinc (pc := 70) (Y := YX2_unsureLine) 3 (v := (v9 + 1)) (ls2 := [(3, iV (v9 + 1)), (0, rV (some this)), (1, iV i1), (2, iV i2)]) dX2_unsureLine_70 rfl rfl (Nat.le_of_ble_eq_true rfl) rfl) ?_
        refine im (go_goto (pc := 73) (Y := YX2_unsureLine) 28 dX2_unsureLine_73 (by decide)) ?_
        exact fun hq => go_sub [1, 2, 3, 0] rfl (ih _ _ _ hq hx)
      clear h22
      revert he21
      refine flp2 (go_if_ne (pc := 43) (Y := YX2_unsureLine) 70 dX2_unsureLine_43 (by decide)) ?_ ?_
      · refine im (go_aload_n (pc := 46) (Y := YX2_unsureLine) 0 dX2_unsureLine_46 rfl rfl) ?_
        refine flp (go_gR (pc := 47) (Y := YX2_unsureLine) fF1012 (by decide) q1649 (Or.inl rfl) dX2_unsureLine_47) (fun v15 => ?_)
        refine im (go_bipush (pc := 50) (Y := YX2_unsureLine) (v := 95) dX2_unsureLine_50 rfl) ?_
        refine im (go_iconst (pc := 52) (Y := YX2_unsureLine) (v := 2) dX2_unsureLine_52 rfl) ?_
        refine im (go_iload_n (pc := 53) (Y := YX2_unsureLine) 3 dX2_unsureLine_53 rfl rfl) ?_
        refine im (go_imul (pc := 54) (Y := YX2_unsureLine) dX2_unsureLine_54) ?_
        refine im (go_iadd (pc := 55) (Y := YX2_unsureLine) dX2_unsureLine_55) ?_
        refine flp (go_lI1 (pc := 56) (Y := YX2_unsureLine) dX2_unsureLine_56) (fun v16 => ?_)
        refine im (go_iload_n (pc := 57) (Y := YX2_unsureLine) 2 dX2_unsureLine_57 rfl rfl) ?_
        refine flp2 (go_icmp_ne (pc := 58) (Y := YX2_unsureLine) 70 dX2_unsureLine_58 (by decide)) ?_ ?_
        · refine im (go_aload_n (pc := 61) (Y := YX2_unsureLine) 0 dX2_unsureLine_61 rfl rfl) ?_
          refine im (go_iconst (pc := 62) (Y := YX2_unsureLine) (v := 3) dX2_unsureLine_62 rfl) ?_
          refine im (go_aload_n (pc := 63) (Y := YX2_unsureLine) 0 dX2_unsureLine_63 rfl rfl) ?_
          refine flp (go_gI (pc := 64) (Y := YX2_unsureLine) fF22 (by decide) q1637 (Or.inl rfl) dX2_unsureLine_64) (fun v17 => ?_)
          refine kdg (fun k18 => ?_)
          refine bpg (fun s19 he20 => ?_)
          refine im (go_callV (pc := 67) (Y := YX2_unsureLine) (Yc := YX2_wrong) (y := yX2_wrong) (n := 2) (c0 := 2) (q := (RX2, TX2, 37)) this [iV 3, iV v17] [] rfl rfl k18 (mX2_wrong s8 he20) YOK_X2_wrong rfl q1817 q133 q1816 qs73 q1814 (Nat.le_of_ble_eq_true rfl) (Nat.le_of_ble_eq_true rfl) (Nat.le_of_ble_eq_true rfl) dX2_unsureLine_67 (st2 := []) rfl) ?_
          clear he20
          refine e1 (fun q0 => ?_)
          subst q0
          exact go_sub [0, 1, 2, 3] rfl hj70
        · refine e1 (fun q0 => ?_)
          subst q0
          exact go_sub [0, 1, 2, 3] rfl hj70
      · refine e1 (fun q0 => ?_)
        subst q0
        exact go_sub [0, 1, 2, 3] rfl hj70
theorem mX2_unsureLine {G : gG} (s0 : St) {this : Nat} {sE : St} (h : sX2_unsureLine s0 this = some sE) : Mt G YX2_unsureLine yX2_unsureLine [rV (some this)] s0 none sE := by
  refine go_start (ls0 := [(0, rV (some this))]) (by decide +kernel) rfl (fun h => by cases h) (Nat.le_of_ble_eq_true rfl) rfl ?_
  revert h
  unfold sX2_unsureLine
  refine im (go_aload_n (pc := 0) (Y := YX2_unsureLine) 0 dX2_unsureLine_0 rfl rfl) ?_
  refine flp (go_gI (pc := 1) (Y := YX2_unsureLine) fF30 (by decide) q1646 (Or.inl rfl) dX2_unsureLine_1) (fun v1 => ?_)
  refine flp2 (go_if_eq (pc := 4) (Y := YX2_unsureLine) 8 dX2_unsureLine_4 (by decide)) ?_ ?_
  · refine im (go_bipush (pc := 8) (Y := YX2_unsureLine) (v := 95) dX2_unsureLine_8 rfl) ?_
    refine im (go_iconst (pc := 10) (Y := YX2_unsureLine) (v := 2) dX2_unsureLine_10 rfl) ?_
    refine im (go_aload_n (pc := 11) (Y := YX2_unsureLine) 0 dX2_unsureLine_11 rfl rfl) ?_
    refine flp (go_gR (pc := 12) (Y := YX2_unsureLine) fF1012 (by decide) q1649 (Or.inl rfl) dX2_unsureLine_12) (fun v2 => ?_)
    refine im (go_bipush (pc := 15) (Y := YX2_unsureLine) (v := 7) dX2_unsureLine_15 rfl) ?_
    refine flp (go_lI1 (pc := 17) (Y := YX2_unsureLine) dX2_unsureLine_17) (fun v3 => ?_)
    refine im (go_imul (pc := 18) (Y := YX2_unsureLine) dX2_unsureLine_18) ?_
    refine im (go_iadd (pc := 19) (Y := YX2_unsureLine) dX2_unsureLine_19) ?_
    refine im (go_istore_n (pc := 20) (Y := YX2_unsureLine) (ls2 := [(1, iV (95 + (2 * v3))), (0, rV (some this))]) dX2_unsureLine_20 rfl (Nat.le_of_ble_eq_true rfl) rfl) ?_
    refine im (go_aload_n (pc := 21) (Y := YX2_unsureLine) 1 dX2_unsureLine_21 rfl rfl) ?_
    refine kdg (fun k4 => ?_)
    refine bdg (fun s5 v6 he7 => ?_)
    refine im (go_callV (pc := 22) (Y := YX2_unsureLine) (Yc := YX2_personHere) (y := yX2_personHere) (n := 0) (c0 := 2) (q := (RX2, TX2, 37)) this [] [] rfl rfl k4 (mX2_personHere s0 he7) YOK_X2_personHere rfl q1904 q133 q1903 qs91 q1901 (Nat.le_of_ble_eq_true rfl) (Nat.le_of_ble_eq_true rfl) (Nat.le_of_ble_eq_true rfl) dX2_unsureLine_22 (st2 := [iV v6]) rfl) ?_
    clear he7
    refine im (go_istore_n (pc := 25) (Y := YX2_unsureLine) (ls2 := [(2, iV v6), (1, iV (95 + (2 * v3))), (0, rV (some this))]) dX2_unsureLine_25 rfl (Nat.le_of_ble_eq_true rfl) rfl) ?_
    refine im (go_iconst (pc := 26) (Y := YX2_unsureLine) (v := 0) dX2_unsureLine_26 rfl) ?_
    refine im (go_istore_n (pc := 27) (Y := YX2_unsureLine) (ls2 := [(3, iV 0), (2, iV v6), (1, iV (95 + (2 * v3))), (0, rV (some this))]) dX2_unsureLine_27 rfl (Nat.le_of_ble_eq_true rfl) rfl) ?_
    refine bpg (fun s23 he39 h40 => ?_)
    refine go_sub [3, 2, 1, 0] rfl (sX2_unsureLine_L28_go this (95 + (2 * v3)) v6 FU _ _ _ he39 ?_)
    clear he39
    revert h40
    refine im (go_aload_n (pc := 76) (Y := YX2_unsureLine) 0 dX2_unsureLine_76 rfl rfl) ?_
    refine kdg (fun k24 => ?_)
    refine bpg (fun s25 he26 => ?_)
    refine im (go_callV (pc := 77) (Y := YX2_unsureLine) (Yc := YX2_pass) (y := yX2_pass) (n := 0) (c0 := 2) (q := (RX2, TX2, 37)) this [] [] rfl rfl k24 (mX2_pass s23 he26) YOK_X2_pass rfl q1842 q133 q1841 qs79 q1839 (Nat.le_of_ble_eq_true rfl) (Nat.le_of_ble_eq_true rfl) (Nat.le_of_ble_eq_true rfl) dX2_unsureLine_77 (st2 := []) rfl) ?_
    clear he26
    refine im (go_aload_n (pc := 80) (Y := YX2_unsureLine) 0 dX2_unsureLine_80 rfl rfl) ?_
    refine im (go_iconst (pc := 81) (Y := YX2_unsureLine) (v := 0) dX2_unsureLine_81 rfl) ?_
    refine im (go_bipush (pc := 82) (Y := YX2_unsureLine) (v := 9) dX2_unsureLine_82 rfl) ?_
    refine kdg (fun k27 => ?_)
    refine bdg (fun s28 v29 he30 => ?_)
    refine im (go_callV (pc := 84) (Y := YX2_unsureLine) (Yc := YX2_number) (y := yX2_number) (n := 2) (c0 := 2) (q := (RX2, TX2, 37)) this [iV 0, iV 9] [] rfl rfl k27 (mX2_number s25 he30) YOK_X2_number rfl q1834 q133 q1833 qs77 q1831 (Nat.le_of_ble_eq_true rfl) (Nat.le_of_ble_eq_true rfl) (Nat.le_of_ble_eq_true rfl) dX2_unsureLine_84 (st2 := [iV v29]) rfl) ?_
    clear he30
    refine im (go_istore_n (pc := 87) (Y := YX2_unsureLine) (ls2 := [(3, iV v29), (0, rV (some this)), (1, iV (95 + (2 * v3))), (2, iV v6)]) dX2_unsureLine_87 rfl (Nat.le_of_ble_eq_true rfl) rfl) ?_
    refine im (go_aload_n (pc := 88) (Y := YX2_unsureLine) 1 dX2_unsureLine_88 rfl rfl) ?_
    refine flp (go_gI (pc := 89) (Y := YX2_unsureLine) fF30 (by decide) q1646 (Or.inl rfl) dX2_unsureLine_89) (fun v31 => ?_)
    refine flp2 (go_if_eq (pc := 92) (Y := YX2_unsureLine) 96 dX2_unsureLine_92 (by decide)) ?_ ?_
    · refine im (go_aload_n (pc := 96) (Y := YX2_unsureLine) 1 dX2_unsureLine_96 rfl rfl) ?_
      refine flp (go_gR (pc := 97) (Y := YX2_unsureLine) fF1012 (by decide) q1649 (Or.inl rfl) dX2_unsureLine_97) (fun v32 => ?_)
      refine im (go_iload_n (pc := 100) (Y := YX2_unsureLine) 2 dX2_unsureLine_100 rfl rfl) ?_
      refine im (go_iload_n (pc := 101) (Y := YX2_unsureLine) 3 dX2_unsureLine_101 rfl rfl) ?_
      refine flp (go_tI (pc := 102) (Y := YX2_unsureLine) dX2_unsureLine_102) (fun s33 => ?_)
      refine im (go_aload_n (pc := 103) (Y := YX2_unsureLine) 1 dX2_unsureLine_103 rfl rfl) ?_
      refine flp (go_gR (pc := 104) (Y := YX2_unsureLine) fF1012 (by decide) q1649 (Or.inl rfl) dX2_unsureLine_104) (fun v34 => ?_)
      refine im (go_iload_n (pc := 107) (Y := YX2_unsureLine) 2 dX2_unsureLine_107 rfl rfl) ?_
      refine im (go_iconst (pc := 108) (Y := YX2_unsureLine) (v := 1) dX2_unsureLine_108 rfl) ?_
      refine im (go_iadd (pc := 109) (Y := YX2_unsureLine) dX2_unsureLine_109) ?_
      refine im (go_iload_n (pc := 110) (Y := YX2_unsureLine) 0 dX2_unsureLine_110 rfl rfl) ?_
      refine flp (go_tI (pc := 111) (Y := YX2_unsureLine) dX2_unsureLine_111) (fun s35 => ?_)
      refine im (go_aload_n (pc := 112) (Y := YX2_unsureLine) 1 dX2_unsureLine_112 rfl rfl) ?_
      refine flp (go_gR (pc := 113) (Y := YX2_unsureLine) fF1012 (by decide) q1649 (Or.inl rfl) dX2_unsureLine_113) (fun v36 => ?_)
      refine im (go_bipush (pc := 116) (Y := YX2_unsureLine) (v := 7) dX2_unsureLine_116 rfl) ?_
      refine im (go_dup2 (pc := 118) (Y := YX2_unsureLine) dX2_unsureLine_118 rfl rfl) ?_
      refine flp (go_lI1 (pc := 119) (Y := YX2_unsureLine) dX2_unsureLine_119) (fun v37 => ?_)
      refine im (go_iconst (pc := 120) (Y := YX2_unsureLine) (v := 1) dX2_unsureLine_120 rfl) ?_
      refine im (go_iadd (pc := 121) (Y := YX2_unsureLine) dX2_unsureLine_121) ?_
      refine flp (go_tI (pc := 122) (Y := YX2_unsureLine) dX2_unsureLine_122) (fun s38 => ?_)
      refine e1 (fun q0 => ?_)
      subst q0
      exact go_vret (pc := 123) (Y := YX2_unsureLine) rfl dX2_unsureLine_123
    · refine e1 (fun q0 => ?_)
      subst q0
      exact go_vret (pc := 95) (Y := YX2_unsureLine) rfl dX2_unsureLine_95
  · refine e1 (fun q0 => ?_)
    subst q0
    exact go_vret (pc := 7) (Y := YX2_unsureLine) rfl dX2_unsureLine_7
abbrev YX2_endedLine : mY := (RX2, cX2_endedLine, 3, (Option.none : Option Jvm.ClassFile.FieldType), 8, 173, false)
theorem YOK_X2_endedLine : YOK yX2_endedLine 0 := ⟨⟨by decide +kernel, by decide +kernel⟩, by decide +kernel⟩
theorem mX2_endedLine {G : gG} (s0 : St) {this : Nat} {sE : St} (h : sX2_endedLine s0 this = some sE) : Mt G YX2_endedLine yX2_endedLine [rV (some this)] s0 none sE := by
  refine go_start (ls0 := [(0, rV (some this))]) (by decide +kernel) rfl (fun h => by cases h) (Nat.le_of_ble_eq_true rfl) rfl ?_
  revert h
  unfold sX2_endedLine
  refine im (go_aload_n (pc := 0) (Y := YX2_endedLine) 0 dX2_endedLine_0 rfl rfl) ?_
  refine im (go_bipush (pc := 1) (Y := YX2_endedLine) (v := 12) dX2_endedLine_1 rfl) ?_
  refine im (go_bipush (pc := 3) (Y := YX2_endedLine) (v := 14) dX2_endedLine_3 rfl) ?_
  refine kdg (fun k1 => ?_)
  refine bdg (fun s2 v3 he4 => ?_)
  refine im (go_callV (pc := 5) (Y := YX2_endedLine) (Yc := YX2_named) (y := yX2_named) (n := 2) (c0 := 2) (q := (RX2, TX2, 37)) this [iV 12, iV 14] [] rfl rfl k1 (mX2_named s0 he4) YOK_X2_named rfl q1886 q133 q1885 qs88 q1883 (Nat.le_of_ble_eq_true rfl) (Nat.le_of_ble_eq_true rfl) (Nat.le_of_ble_eq_true rfl) dX2_endedLine_5 (st2 := [iV v3]) rfl) ?_
  clear he4
  refine im (go_istore_n (pc := 8) (Y := YX2_endedLine) (ls2 := [(1, iV v3), (0, rV (some this))]) dX2_endedLine_8 rfl (Nat.le_of_ble_eq_true rfl) rfl) ?_
  refine im (go_aload_n (pc := 9) (Y := YX2_endedLine) 1 dX2_endedLine_9 rfl rfl) ?_
  refine flp (go_gI (pc := 10) (Y := YX2_endedLine) fF30 (by decide) q1646 (Or.inl rfl) dX2_endedLine_10) (fun v5 => ?_)
  refine bpg (fun s6 he26 h27 => ?_)
  have hj37 : Go G YX2_endedLine s0 sE none 37 [(0, rV (some this)), (1, iV v3)] [] s6 := by
    clear he26
    revert h27
    refine im (go_aload_n (pc := 37) (Y := YX2_endedLine) 0 dX2_endedLine_37 rfl rfl) ?_
    refine kdg (fun k7 => ?_)
    refine bpg (fun s8 he9 => ?_)
    refine im (go_callV (pc := 38) (Y := YX2_endedLine) (Yc := YX2_pass) (y := yX2_pass) (n := 0) (c0 := 2) (q := (RX2, TX2, 37)) this [] [] rfl rfl k7 (mX2_pass s6 he9) YOK_X2_pass rfl q1842 q133 q1841 qs79 q1839 (Nat.le_of_ble_eq_true rfl) (Nat.le_of_ble_eq_true rfl) (Nat.le_of_ble_eq_true rfl) dX2_endedLine_38 (st2 := []) rfl) ?_
    clear he9
    refine im (go_aload_n (pc := 41) (Y := YX2_endedLine) 0 dX2_endedLine_41 rfl rfl) ?_
    refine im (go_ldcS (pc := 42) (Y := YX2_endedLine) (idx := 237) (i := 1) (tx := "at") (by decide +kernel) dX2_endedLine_42) ?_
    refine im (go_iconst (pc := 44) (Y := YX2_endedLine) (v := 0) dX2_endedLine_44 rfl) ?_
    refine im (go_bipush (pc := 45) (Y := YX2_endedLine) (v := 59) dX2_endedLine_45 rfl) ?_
    refine kdg (fun k10 => ?_)
    refine bdg (fun s11 v12 he13 => ?_)
    refine im (go_callV (pc := 47) (Y := YX2_endedLine) (Yc := YX2_after) (y := yX2_after) (n := 3) (c0 := 2) (q := (RX2, TX2, 37)) this [rV (s8.ks 1), iV 0, iV 59] [] rfl rfl k10 (mX2_after s8 he13) YOK_X2_after rfl q1822 q133 q1821 qs74 q1819 (Nat.le_of_ble_eq_true rfl) (Nat.le_of_ble_eq_true rfl) (Nat.le_of_ble_eq_true rfl) dX2_endedLine_47 (st2 := [iV v12]) rfl) ?_
    clear he13
    refine im (go_istore_n (pc := 50) (Y := YX2_endedLine) (ls2 := [(2, iV v12), (0, rV (some this)), (1, iV v3)]) dX2_endedLine_50 rfl (Nat.le_of_ble_eq_true rfl) rfl) ?_
    refine im (go_aload_n (pc := 51) (Y := YX2_endedLine) 1 dX2_endedLine_51 rfl rfl) ?_
    refine flp (go_gI (pc := 52) (Y := YX2_endedLine) fF30 (by decide) q1646 (Or.inl rfl) dX2_endedLine_52) (fun v14 => ?_)
    refine flp2 (go_if_eq (pc := 55) (Y := YX2_endedLine) 59 dX2_endedLine_55 (by decide)) ?_ ?_
    · refine im (go_aload_n (pc := 59) (Y := YX2_endedLine) 1 dX2_endedLine_59 rfl rfl) ?_
      refine flp (go_gR (pc := 60) (Y := YX2_endedLine) fF1012 (by decide) q1649 (Or.inl rfl) dX2_endedLine_60) (fun v15 => ?_)
      refine im (go_bipush (pc := 63) (Y := YX2_endedLine) (v := 103) dX2_endedLine_63 rfl) ?_
      refine im (go_iload_n (pc := 65) (Y := YX2_endedLine) 2 dX2_endedLine_65 rfl rfl) ?_
      refine im (go_iadd (pc := 66) (Y := YX2_endedLine) dX2_endedLine_66) ?_
      refine im (go_iload_n (pc := 67) (Y := YX2_endedLine) 0 dX2_endedLine_67 rfl rfl) ?_
      refine im (go_iconst (pc := 68) (Y := YX2_endedLine) (v := 1) dX2_endedLine_68 rfl) ?_
      refine im (go_iadd (pc := 69) (Y := YX2_endedLine) dX2_endedLine_69) ?_
      refine flp (go_tI (pc := 70) (Y := YX2_endedLine) dX2_endedLine_70) (fun s16 => ?_)
      refine im (go_aload_n (pc := 71) (Y := YX2_endedLine) 1 dX2_endedLine_71 rfl rfl) ?_
      refine flp (go_gR (pc := 72) (Y := YX2_endedLine) fF1012 (by decide) q1649 (Or.inl rfl) dX2_endedLine_72) (fun v17 => ?_)
      refine im (go_bipush (pc := 75) (Y := YX2_endedLine) (v := 8) dX2_endedLine_75 rfl) ?_
      refine im (go_dup2 (pc := 77) (Y := YX2_endedLine) dX2_endedLine_77 rfl rfl) ?_
      refine flp (go_lI1 (pc := 78) (Y := YX2_endedLine) dX2_endedLine_78) (fun v18 => ?_)
      refine im (go_iconst (pc := 79) (Y := YX2_endedLine) (v := 1) dX2_endedLine_79 rfl) ?_
      refine im (go_iadd (pc := 80) (Y := YX2_endedLine) dX2_endedLine_80) ?_
      refine flp (go_tI (pc := 81) (Y := YX2_endedLine) dX2_endedLine_81) (fun s19 => ?_)
      refine e1 (fun q0 => ?_)
      subst q0
      exact go_vret (pc := 82) (Y := YX2_endedLine) rfl dX2_endedLine_82
    · refine e1 (fun q0 => ?_)
      subst q0
      exact go_vret (pc := 58) (Y := YX2_endedLine) rfl dX2_endedLine_58
  clear h27
  revert he26
  refine flp2 (go_if_ne (pc := 13) (Y := YX2_endedLine) 37 dX2_endedLine_13 (by decide)) ?_ ?_
  · refine im (go_aload_n (pc := 16) (Y := YX2_endedLine) 1 dX2_endedLine_16 rfl rfl) ?_
    refine flp (go_gR (pc := 17) (Y := YX2_endedLine) fF1012 (by decide) q1649 (Or.inl rfl) dX2_endedLine_17) (fun v20 => ?_)
    refine im (go_bipush (pc := 20) (Y := YX2_endedLine) (v := 103) dX2_endedLine_20 rfl) ?_
    refine im (go_iload_n (pc := 22) (Y := YX2_endedLine) 0 dX2_endedLine_22 rfl rfl) ?_
    refine im (go_iadd (pc := 23) (Y := YX2_endedLine) dX2_endedLine_23) ?_
    refine flp (go_lI1 (pc := 24) (Y := YX2_endedLine) dX2_endedLine_24) (fun v21 => ?_)
    refine flp2 (go_if_le (pc := 25) (Y := YX2_endedLine) 37 dX2_endedLine_25 (by decide)) ?_ ?_
    · refine e1 (fun q0 => ?_)
      subst q0
      exact go_sub [1, 0] rfl hj37
    · refine im (go_aload_n (pc := 28) (Y := YX2_endedLine) 1 dX2_endedLine_28 rfl rfl) ?_
      refine im (go_iconst (pc := 29) (Y := YX2_endedLine) (v := 3) dX2_endedLine_29 rfl) ?_
      refine im (go_aload_n (pc := 30) (Y := YX2_endedLine) 1 dX2_endedLine_30 rfl rfl) ?_
      refine flp (go_gI (pc := 31) (Y := YX2_endedLine) fF22 (by decide) q1637 (Or.inl rfl) dX2_endedLine_31) (fun v22 => ?_)
      refine kdg (fun k23 => ?_)
      refine bpg (fun s24 he25 => ?_)
      refine im (go_callV (pc := 34) (Y := YX2_endedLine) (Yc := YX2_wrong) (y := yX2_wrong) (n := 2) (c0 := 2) (q := (RX2, TX2, 37)) this [iV 3, iV v22] [] rfl rfl k23 (mX2_wrong s2 he25) YOK_X2_wrong rfl q1817 q133 q1816 qs73 q1814 (Nat.le_of_ble_eq_true rfl) (Nat.le_of_ble_eq_true rfl) (Nat.le_of_ble_eq_true rfl) dX2_endedLine_34 (st2 := []) rfl) ?_
      clear he25
      refine e1 (fun q0 => ?_)
      subst q0
      exact go_sub [1, 0] rfl hj37
  · refine e1 (fun q0 => ?_)
    subst q0
    exact go_sub [1, 0] rfl hj37
abbrev YX2_readLine : mY := (RX2, cX2_readLine, 1, (Option.none : Option Jvm.ClassFile.FieldType), 10, 218, false)
theorem YOK_X2_readLine : YOK yX2_readLine 0 := ⟨⟨by decide +kernel, by decide +kernel⟩, by decide +kernel⟩
theorem mX2_readLine {G : gG} (s0 : St) {this : Nat} {sE : St} (h : sX2_readLine s0 this = some sE) : Mt G YX2_readLine yX2_readLine [rV (some this)] s0 none sE := by
  refine go_start (ls0 := [(0, rV (some this))]) (by decide +kernel) rfl (fun h => by cases h) (Nat.le_of_ble_eq_true rfl) rfl ?_
  revert h
  unfold sX2_readLine
  refine im (go_aload_n (pc := 0) (Y := YX2_readLine) 0 dX2_readLine_0 rfl rfl) ?_
  refine im (go_ldcS (pc := 1) (Y := YX2_readLine) (idx := 116) (i := 17) (tx := "town") (by decide +kernel) dX2_readLine_1) ?_
  refine kdg (fun k1 => ?_)
  refine bpg (fun v2 he3 => ?_)
  refine im (go_callV (pc := 3) (Y := YX2_readLine) (Yc := YX2_isWord) (y := yX2_isWord) (n := 1) (c0 := 2) (q := (RX2, TX2, 37)) this [rV (s0.ks 17)] [] rfl rfl k1 (mX2_isWord s0 he3) YOK_X2_isWord rfl q1790 q133 q1789 qs71 q1787 (Nat.le_of_ble_eq_true rfl) (Nat.le_of_ble_eq_true rfl) (Nat.le_of_ble_eq_true rfl) dX2_readLine_3 (st2 := [iV v2]) rfl) ?_
  clear he3
  refine flp2 (go_if_eq (pc := 6) (Y := YX2_readLine) 16 dX2_readLine_6 (by decide)) ?_ ?_
  · refine im (go_aload_n (pc := 16) (Y := YX2_readLine) 0 dX2_readLine_16 rfl rfl) ?_
    refine im (go_ldcS (pc := 17) (Y := YX2_readLine) (idx := 118) (i := 13) (tx := "place") (by decide +kernel) dX2_readLine_17) ?_
    refine im (go_aload_n (pc := 19) (Y := YX2_readLine) 0 dX2_readLine_19 rfl rfl) ?_
    refine flp (go_gR (pc := 20) (Y := YX2_readLine) fF1012 (by decide) q1649 (Or.inl rfl) dX2_readLine_20) (fun v4 => ?_)
    refine im (go_iconst (pc := 23) (Y := YX2_readLine) (v := 1) dX2_readLine_23 rfl) ?_
    refine flp (go_lI1 (pc := 24) (Y := YX2_readLine) dX2_readLine_24) (fun v5 => ?_)
    refine im (go_bipush (pc := 25) (Y := YX2_readLine) (v := 6) dX2_readLine_25 rfl) ?_
    refine bpg (fun v6 he92 h93 => ?_)
    have hj35 : Go G YX2_readLine s0 sE none 35 [(0, rV (some this))] [iV v6, rV (s0.ks 13), rV (some this)] s0 := by
      clear he92
      revert h93
      refine kdg (fun k7 => ?_)
      refine bdg (fun s8 v9 he10 => ?_)
      refine im (go_callV (pc := 35) (Y := YX2_readLine) (Yc := YX2_begins) (y := yX2_begins) (n := 2) (c0 := 2) (q := (RX2, TX2, 37)) this [rV (s0.ks 13), iV v6] [] rfl rfl k7 (mX2_begins s0 he10) YOK_X2_begins rfl q1847 q133 q1846 qs80 q1844 (Nat.le_of_ble_eq_true rfl) (Nat.le_of_ble_eq_true rfl) (Nat.le_of_ble_eq_true rfl) dX2_readLine_35 (st2 := [iV v9]) rfl) ?_
      clear he10
      refine flp2 (go_if_eq (pc := 38) (Y := YX2_readLine) 48 dX2_readLine_38 (by decide)) ?_ ?_
      · refine im (go_aload_n (pc := 48) (Y := YX2_readLine) 0 dX2_readLine_48 rfl rfl) ?_
        refine im (go_ldcS (pc := 49) (Y := YX2_readLine) (idx := 119) (i := 16) (tx := "sees") (by decide +kernel) dX2_readLine_49) ?_
        refine im (go_aload_n (pc := 51) (Y := YX2_readLine) 0 dX2_readLine_51 rfl rfl) ?_
        refine flp (go_gR (pc := 52) (Y := YX2_readLine) fF1012 (by decide) q1649 (Or.inl rfl) dX2_readLine_52) (fun v11 => ?_)
        refine im (go_iconst (pc := 55) (Y := YX2_readLine) (v := 2) dX2_readLine_55 rfl) ?_
        refine flp (go_lI1 (pc := 56) (Y := YX2_readLine) dX2_readLine_56) (fun v12 => ?_)
        refine im (go_bipush (pc := 57) (Y := YX2_readLine) (v := 8) dX2_readLine_57 rfl) ?_
        refine bpg (fun v13 he87 h88 => ?_)
        have hj67 : Go G YX2_readLine s0 sE none 67 [(0, rV (some this))] [iV v13, rV (s8.ks 16), rV (some this)] s8 := by
          clear he87
          revert h88
          refine kdg (fun k14 => ?_)
          refine bdg (fun s15 v16 he17 => ?_)
          refine im (go_callV (pc := 67) (Y := YX2_readLine) (Yc := YX2_begins) (y := yX2_begins) (n := 2) (c0 := 2) (q := (RX2, TX2, 37)) this [rV (s8.ks 16), iV v13] [] rfl rfl k14 (mX2_begins s8 he17) YOK_X2_begins rfl q1847 q133 q1846 qs80 q1844 (Nat.le_of_ble_eq_true rfl) (Nat.le_of_ble_eq_true rfl) (Nat.le_of_ble_eq_true rfl) dX2_readLine_67 (st2 := [iV v16]) rfl) ?_
          clear he17
          refine flp2 (go_if_eq (pc := 70) (Y := YX2_readLine) 80 dX2_readLine_70 (by decide)) ?_ ?_
          · refine im (go_aload_n (pc := 80) (Y := YX2_readLine) 0 dX2_readLine_80 rfl rfl) ?_
            refine im (go_ldcS (pc := 81) (Y := YX2_readLine) (idx := 121) (i := 12) (tx := "person") (by decide +kernel) dX2_readLine_81) ?_
            refine im (go_aload_n (pc := 83) (Y := YX2_readLine) 0 dX2_readLine_83 rfl rfl) ?_
            refine flp (go_gR (pc := 84) (Y := YX2_readLine) fF1012 (by decide) q1649 (Or.inl rfl) dX2_readLine_84) (fun v18 => ?_)
            refine im (go_iconst (pc := 87) (Y := YX2_readLine) (v := 3) dX2_readLine_87 rfl) ?_
            refine flp (go_lI1 (pc := 88) (Y := YX2_readLine) dX2_readLine_88) (fun v19 => ?_)
            refine im (go_bipush (pc := 89) (Y := YX2_readLine) (v := 6) dX2_readLine_89 rfl) ?_
            refine bpg (fun v20 he82 h83 => ?_)
            have hj99 : Go G YX2_readLine s0 sE none 99 [(0, rV (some this))] [iV v20, rV (s15.ks 12), rV (some this)] s15 := by
              clear he82
              revert h83
              refine kdg (fun k21 => ?_)
              refine bdg (fun s22 v23 he24 => ?_)
              refine im (go_callV (pc := 99) (Y := YX2_readLine) (Yc := YX2_begins) (y := yX2_begins) (n := 2) (c0 := 2) (q := (RX2, TX2, 37)) this [rV (s15.ks 12), iV v20] [] rfl rfl k21 (mX2_begins s15 he24) YOK_X2_begins rfl q1847 q133 q1846 qs80 q1844 (Nat.le_of_ble_eq_true rfl) (Nat.le_of_ble_eq_true rfl) (Nat.le_of_ble_eq_true rfl) dX2_readLine_99 (st2 := [iV v23]) rfl) ?_
              clear he24
              refine flp2 (go_if_eq (pc := 102) (Y := YX2_readLine) 112 dX2_readLine_102 (by decide)) ?_ ?_
              · refine im (go_aload_n (pc := 112) (Y := YX2_readLine) 0 dX2_readLine_112 rfl rfl) ?_
                refine im (go_ldcS (pc := 113) (Y := YX2_readLine) (idx := 123) (i := 9) (tx := "goes") (by decide +kernel) dX2_readLine_113) ?_
                refine im (go_aload_n (pc := 115) (Y := YX2_readLine) 0 dX2_readLine_115 rfl rfl) ?_
                refine flp (go_gR (pc := 116) (Y := YX2_readLine) fF1012 (by decide) q1649 (Or.inl rfl) dX2_readLine_116) (fun v25 => ?_)
                refine im (go_iconst (pc := 119) (Y := YX2_readLine) (v := 4) dX2_readLine_119 rfl) ?_
                refine flp (go_lI1 (pc := 120) (Y := YX2_readLine) dX2_readLine_120) (fun v26 => ?_)
                refine im (go_bipush (pc := 121) (Y := YX2_readLine) (v := 10) dX2_readLine_121 rfl) ?_
                refine bpg (fun v27 he77 h78 => ?_)
                have hj131 : Go G YX2_readLine s0 sE none 131 [(0, rV (some this))] [iV v27, rV (s22.ks 9), rV (some this)] s22 := by
                  clear he77
                  revert h78
                  refine kdg (fun k28 => ?_)
                  refine bdg (fun s29 v30 he31 => ?_)
                  refine im (go_callV (pc := 131) (Y := YX2_readLine) (Yc := YX2_begins) (y := yX2_begins) (n := 2) (c0 := 2) (q := (RX2, TX2, 37)) this [rV (s22.ks 9), iV v27] [] rfl rfl k28 (mX2_begins s22 he31) YOK_X2_begins rfl q1847 q133 q1846 qs80 q1844 (Nat.le_of_ble_eq_true rfl) (Nat.le_of_ble_eq_true rfl) (Nat.le_of_ble_eq_true rfl) dX2_readLine_131 (st2 := [iV v30]) rfl) ?_
                  clear he31
                  refine flp2 (go_if_eq (pc := 134) (Y := YX2_readLine) 144 dX2_readLine_134 (by decide)) ?_ ?_
                  · refine im (go_aload_n (pc := 144) (Y := YX2_readLine) 0 dX2_readLine_144 rfl rfl) ?_
                    refine im (go_ldcS (pc := 145) (Y := YX2_readLine) (idx := 125) (i := 15) (tx := "quarrel") (by decide +kernel) dX2_readLine_145) ?_
                    refine im (go_aload_n (pc := 147) (Y := YX2_readLine) 0 dX2_readLine_147 rfl rfl) ?_
                    refine flp (go_gR (pc := 148) (Y := YX2_readLine) fF1012 (by decide) q1649 (Or.inl rfl) dX2_readLine_148) (fun v32 => ?_)
                    refine im (go_iconst (pc := 151) (Y := YX2_readLine) (v := 5) dX2_readLine_151 rfl) ?_
                    refine flp (go_lI1 (pc := 152) (Y := YX2_readLine) dX2_readLine_152) (fun v33 => ?_)
                    refine im (go_iconst (pc := 153) (Y := YX2_readLine) (v := 3) dX2_readLine_153 rfl) ?_
                    refine bpg (fun v34 he72 h73 => ?_)
                    have hj162 : Go G YX2_readLine s0 sE none 162 [(0, rV (some this))] [iV v34, rV (s29.ks 15), rV (some this)] s29 := by
                      clear he72
                      revert h73
                      refine kdg (fun k35 => ?_)
                      refine bdg (fun s36 v37 he38 => ?_)
                      refine im (go_callV (pc := 162) (Y := YX2_readLine) (Yc := YX2_begins) (y := yX2_begins) (n := 2) (c0 := 2) (q := (RX2, TX2, 37)) this [rV (s29.ks 15), iV v34] [] rfl rfl k35 (mX2_begins s29 he38) YOK_X2_begins rfl q1847 q133 q1846 qs80 q1844 (Nat.le_of_ble_eq_true rfl) (Nat.le_of_ble_eq_true rfl) (Nat.le_of_ble_eq_true rfl) dX2_readLine_162 (st2 := [iV v37]) rfl) ?_
                      clear he38
                      refine flp2 (go_if_eq (pc := 165) (Y := YX2_readLine) 175 dX2_readLine_165 (by decide)) ?_ ?_
                      · refine im (go_aload_n (pc := 175) (Y := YX2_readLine) 0 dX2_readLine_175 rfl rfl) ?_
                        refine im (go_ldcS (pc := 176) (Y := YX2_readLine) (idx := 127) (i := 10) (tx := "hire") (by decide +kernel) dX2_readLine_176) ?_
                        refine im (go_iconst (pc := 178) (Y := YX2_readLine) (v := 1) dX2_readLine_178 rfl) ?_
                        refine kdg (fun k39 => ?_)
                        refine bdg (fun s40 v41 he42 => ?_)
                        refine im (go_callV (pc := 179) (Y := YX2_readLine) (Yc := YX2_begins) (y := yX2_begins) (n := 2) (c0 := 2) (q := (RX2, TX2, 37)) this [rV (s36.ks 10), iV 1] [] rfl rfl k39 (mX2_begins s36 he42) YOK_X2_begins rfl q1847 q133 q1846 qs80 q1844 (Nat.le_of_ble_eq_true rfl) (Nat.le_of_ble_eq_true rfl) (Nat.le_of_ble_eq_true rfl) dX2_readLine_179 (st2 := [iV v41]) rfl) ?_
                        clear he42
                        refine flp2 (go_if_eq (pc := 182) (Y := YX2_readLine) 192 dX2_readLine_182 (by decide)) ?_ ?_
                        · refine im (go_aload_n (pc := 192) (Y := YX2_readLine) 0 dX2_readLine_192 rfl rfl) ?_
                          refine im (go_ldcS (pc := 193) (Y := YX2_readLine) (idx := 129) (i := 18) (tx := "unsure") (by decide +kernel) dX2_readLine_193) ?_
                          refine im (go_aload_n (pc := 195) (Y := YX2_readLine) 0 dX2_readLine_195 rfl rfl) ?_
                          refine flp (go_gR (pc := 196) (Y := YX2_readLine) fF1012 (by decide) q1649 (Or.inl rfl) dX2_readLine_196) (fun v43 => ?_)
                          refine im (go_bipush (pc := 199) (Y := YX2_readLine) (v := 7) dX2_readLine_199 rfl) ?_
                          refine flp (go_lI1 (pc := 201) (Y := YX2_readLine) dX2_readLine_201) (fun v44 => ?_)
                          refine im (go_iconst (pc := 202) (Y := YX2_readLine) (v := 4) dX2_readLine_202 rfl) ?_
                          refine bpg (fun v45 he64 h65 => ?_)
                          have hj211 : Go G YX2_readLine s0 sE none 211 [(0, rV (some this))] [iV v45, rV (s40.ks 18), rV (some this)] s40 := by
                            clear he64
                            revert h65
                            refine kdg (fun k46 => ?_)
                            refine bdg (fun s47 v48 he49 => ?_)
                            refine im (go_callV (pc := 211) (Y := YX2_readLine) (Yc := YX2_begins) (y := yX2_begins) (n := 2) (c0 := 2) (q := (RX2, TX2, 37)) this [rV (s40.ks 18), iV v45] [] rfl rfl k46 (mX2_begins s40 he49) YOK_X2_begins rfl q1847 q133 q1846 qs80 q1844 (Nat.le_of_ble_eq_true rfl) (Nat.le_of_ble_eq_true rfl) (Nat.le_of_ble_eq_true rfl) dX2_readLine_211 (st2 := [iV v48]) rfl) ?_
                            clear he49
                            refine flp2 (go_if_eq (pc := 214) (Y := YX2_readLine) 224 dX2_readLine_214 (by decide)) ?_ ?_
                            · refine im (go_aload_n (pc := 224) (Y := YX2_readLine) 0 dX2_readLine_224 rfl rfl) ?_
                              refine im (go_ldcS (pc := 225) (Y := YX2_readLine) (idx := 131) (i := 6) (tx := "ended") (by decide +kernel) dX2_readLine_225) ?_
                              refine im (go_iconst (pc := 227) (Y := YX2_readLine) (v := 1) dX2_readLine_227 rfl) ?_
                              refine kdg (fun k50 => ?_)
                              refine bdg (fun s51 v52 he53 => ?_)
                              refine im (go_callV (pc := 228) (Y := YX2_readLine) (Yc := YX2_begins) (y := yX2_begins) (n := 2) (c0 := 2) (q := (RX2, TX2, 37)) this [rV (s47.ks 6), iV 1] [] rfl rfl k50 (mX2_begins s47 he53) YOK_X2_begins rfl q1847 q133 q1846 qs80 q1844 (Nat.le_of_ble_eq_true rfl) (Nat.le_of_ble_eq_true rfl) (Nat.le_of_ble_eq_true rfl) dX2_readLine_228 (st2 := [iV v52]) rfl) ?_
                              clear he53
                              refine flp2 (go_if_eq (pc := 231) (Y := YX2_readLine) 241 dX2_readLine_231 (by decide)) ?_ ?_
                              · refine im (go_aload_n (pc := 241) (Y := YX2_readLine) 0 dX2_readLine_241 rfl rfl) ?_
                                refine im (go_iconst (pc := 242) (Y := YX2_readLine) (v := 1) dX2_readLine_242 rfl) ?_
                                refine im (go_aload_n (pc := 243) (Y := YX2_readLine) 0 dX2_readLine_243 rfl rfl) ?_
                                refine flp (go_gI (pc := 244) (Y := YX2_readLine) fF22 (by decide) q1637 (Or.inl rfl) dX2_readLine_244) (fun v54 => ?_)
                                refine kdg (fun k55 => ?_)
                                refine bpg (fun s56 he57 => ?_)
                                refine im (go_callV (pc := 247) (Y := YX2_readLine) (Yc := YX2_wrong) (y := yX2_wrong) (n := 2) (c0 := 2) (q := (RX2, TX2, 37)) this [iV 1, iV v54] [] rfl rfl k55 (mX2_wrong s51 he57) YOK_X2_wrong rfl q1817 q133 q1816 qs73 q1814 (Nat.le_of_ble_eq_true rfl) (Nat.le_of_ble_eq_true rfl) (Nat.le_of_ble_eq_true rfl) dX2_readLine_247 (st2 := []) rfl) ?_
                                clear he57
                                refine e1 (fun q0 => ?_)
                                subst q0
                                exact go_vret (pc := 250) (Y := YX2_readLine) rfl dX2_readLine_250
                              · refine im (go_aload_n (pc := 234) (Y := YX2_readLine) 0 dX2_readLine_234 rfl rfl) ?_
                                refine kdg (fun k58 => ?_)
                                refine bpg (fun s59 he60 => ?_)
                                refine im (go_callV (pc := 235) (Y := YX2_readLine) (Yc := YX2_endedLine) (y := yX2_endedLine) (n := 0) (c0 := 2) (q := (RX2, TX2, 37)) this [] [] rfl rfl k58 (mX2_endedLine s51 he60) YOK_X2_endedLine rfl q1923 q133 q1922 qs95 q1920 (Nat.le_of_ble_eq_true rfl) (Nat.le_of_ble_eq_true rfl) (Nat.le_of_ble_eq_true rfl) dX2_readLine_235 (st2 := []) rfl) ?_
                                clear he60
                                refine im (go_goto (pc := 238) (Y := YX2_readLine) 250 dX2_readLine_238 (by decide)) ?_
                                refine e1 (fun q0 => ?_)
                                subst q0
                                exact go_vret (pc := 250) (Y := YX2_readLine) rfl dX2_readLine_250
                            · refine im (go_aload_n (pc := 217) (Y := YX2_readLine) 0 dX2_readLine_217 rfl rfl) ?_
                              refine kdg (fun k61 => ?_)
                              refine bpg (fun s62 he63 => ?_)
                              refine im (go_callV (pc := 218) (Y := YX2_readLine) (Yc := YX2_unsureLine) (y := yX2_unsureLine) (n := 0) (c0 := 2) (q := (RX2, TX2, 37)) this [] [] rfl rfl k61 (mX2_unsureLine s47 he63) YOK_X2_unsureLine rfl q1919 q133 q1918 qs94 q1916 (Nat.le_of_ble_eq_true rfl) (Nat.le_of_ble_eq_true rfl) (Nat.le_of_ble_eq_true rfl) dX2_readLine_218 (st2 := []) rfl) ?_
                              clear he63
                              refine im (go_goto (pc := 221) (Y := YX2_readLine) 250 dX2_readLine_221 (by decide)) ?_
                              refine e1 (fun q0 => ?_)
                              subst q0
                              exact go_vret (pc := 250) (Y := YX2_readLine) rfl dX2_readLine_250
                          clear h65
                          revert he64
                          refine flp2 (go_icmp_ge (pc := 203) (Y := YX2_readLine) 210 dX2_readLine_203 (by decide)) ?_ ?_
                          · refine im (go_iconst (pc := 210) (Y := YX2_readLine) (v := 0) dX2_readLine_210 rfl) ?_
                            refine e1 (fun q0 => ?_)
                            subst q0
                            exact go_sub [0] rfl hj211
                          · refine im (go_iconst (pc := 206) (Y := YX2_readLine) (v := 1) dX2_readLine_206 rfl) ?_
                            refine im (go_goto (pc := 207) (Y := YX2_readLine) 211 dX2_readLine_207 (by decide)) ?_
                            refine e1 (fun q0 => ?_)
                            subst q0
                            exact go_sub [0] rfl hj211
                        · refine im (go_aload_n (pc := 185) (Y := YX2_readLine) 0 dX2_readLine_185 rfl rfl) ?_
                          refine kdg (fun k66 => ?_)
                          refine bpg (fun s67 he68 => ?_)
                          refine im (go_callV (pc := 186) (Y := YX2_readLine) (Yc := YX2_hireLine) (y := yX2_hireLine) (n := 0) (c0 := 2) (q := (RX2, TX2, 37)) this [] [] rfl rfl k66 (mX2_hireLine s40 he68) YOK_X2_hireLine rfl q1914 q133 q1913 qs93 q1911 (Nat.le_of_ble_eq_true rfl) (Nat.le_of_ble_eq_true rfl) (Nat.le_of_ble_eq_true rfl) dX2_readLine_186 (st2 := []) rfl) ?_
                          clear he68
                          refine im (go_goto (pc := 189) (Y := YX2_readLine) 250 dX2_readLine_189 (by decide)) ?_
                          refine e1 (fun q0 => ?_)
                          subst q0
                          exact go_vret (pc := 250) (Y := YX2_readLine) rfl dX2_readLine_250
                      · refine im (go_aload_n (pc := 168) (Y := YX2_readLine) 0 dX2_readLine_168 rfl rfl) ?_
                        refine kdg (fun k69 => ?_)
                        refine bpg (fun s70 he71 => ?_)
                        refine im (go_callV (pc := 169) (Y := YX2_readLine) (Yc := YX2_quarrelLine) (y := yX2_quarrelLine) (n := 0) (c0 := 2) (q := (RX2, TX2, 37)) this [] [] rfl rfl k69 (mX2_quarrelLine s36 he71) YOK_X2_quarrelLine rfl q1908 q133 q1907 qs92 q1905 (Nat.le_of_ble_eq_true rfl) (Nat.le_of_ble_eq_true rfl) (Nat.le_of_ble_eq_true rfl) dX2_readLine_169 (st2 := []) rfl) ?_
                        clear he71
                        refine im (go_goto (pc := 172) (Y := YX2_readLine) 250 dX2_readLine_172 (by decide)) ?_
                        refine e1 (fun q0 => ?_)
                        subst q0
                        exact go_vret (pc := 250) (Y := YX2_readLine) rfl dX2_readLine_250
                    clear h73
                    revert he72
                    refine flp2 (go_icmp_ge (pc := 154) (Y := YX2_readLine) 161 dX2_readLine_154 (by decide)) ?_ ?_
                    · refine im (go_iconst (pc := 161) (Y := YX2_readLine) (v := 0) dX2_readLine_161 rfl) ?_
                      refine e1 (fun q0 => ?_)
                      subst q0
                      exact go_sub [0] rfl hj162
                    · refine im (go_iconst (pc := 157) (Y := YX2_readLine) (v := 1) dX2_readLine_157 rfl) ?_
                      refine im (go_goto (pc := 158) (Y := YX2_readLine) 162 dX2_readLine_158 (by decide)) ?_
                      refine e1 (fun q0 => ?_)
                      subst q0
                      exact go_sub [0] rfl hj162
                  · refine im (go_aload_n (pc := 137) (Y := YX2_readLine) 0 dX2_readLine_137 rfl rfl) ?_
                    refine kdg (fun k74 => ?_)
                    refine bpg (fun s75 he76 => ?_)
                    refine im (go_callV (pc := 138) (Y := YX2_readLine) (Yc := YX2_goesLine) (y := yX2_goesLine) (n := 0) (c0 := 2) (q := (RX2, TX2, 37)) this [] [] rfl rfl k74 (mX2_goesLine s29 he76) YOK_X2_goesLine rfl q1900 q133 q1899 qs90 q1897 (Nat.le_of_ble_eq_true rfl) (Nat.le_of_ble_eq_true rfl) (Nat.le_of_ble_eq_true rfl) dX2_readLine_138 (st2 := []) rfl) ?_
                    clear he76
                    refine im (go_goto (pc := 141) (Y := YX2_readLine) 250 dX2_readLine_141 (by decide)) ?_
                    refine e1 (fun q0 => ?_)
                    subst q0
                    exact go_vret (pc := 250) (Y := YX2_readLine) rfl dX2_readLine_250
                clear h78
                revert he77
                refine flp2 (go_icmp_ge (pc := 123) (Y := YX2_readLine) 130 dX2_readLine_123 (by decide)) ?_ ?_
                · refine im (go_iconst (pc := 130) (Y := YX2_readLine) (v := 0) dX2_readLine_130 rfl) ?_
                  refine e1 (fun q0 => ?_)
                  subst q0
                  exact go_sub [0] rfl hj131
                · refine im (go_iconst (pc := 126) (Y := YX2_readLine) (v := 1) dX2_readLine_126 rfl) ?_
                  refine im (go_goto (pc := 127) (Y := YX2_readLine) 131 dX2_readLine_127 (by decide)) ?_
                  refine e1 (fun q0 => ?_)
                  subst q0
                  exact go_sub [0] rfl hj131
              · refine im (go_aload_n (pc := 105) (Y := YX2_readLine) 0 dX2_readLine_105 rfl rfl) ?_
                refine kdg (fun k79 => ?_)
                refine bpg (fun s80 he81 => ?_)
                refine im (go_callV (pc := 106) (Y := YX2_readLine) (Yc := YX2_personLine) (y := yX2_personLine) (n := 0) (c0 := 2) (q := (RX2, TX2, 37)) this [] [] rfl rfl k79 (mX2_personLine s22 he81) YOK_X2_personLine rfl q1890 q133 q1889 qs89 q1887 (Nat.le_of_ble_eq_true rfl) (Nat.le_of_ble_eq_true rfl) (Nat.le_of_ble_eq_true rfl) dX2_readLine_106 (st2 := []) rfl) ?_
                clear he81
                refine im (go_goto (pc := 109) (Y := YX2_readLine) 250 dX2_readLine_109 (by decide)) ?_
                refine e1 (fun q0 => ?_)
                subst q0
                exact go_vret (pc := 250) (Y := YX2_readLine) rfl dX2_readLine_250
            clear h83
            revert he82
            refine flp2 (go_icmp_ge (pc := 91) (Y := YX2_readLine) 98 dX2_readLine_91 (by decide)) ?_ ?_
            · refine im (go_iconst (pc := 98) (Y := YX2_readLine) (v := 0) dX2_readLine_98 rfl) ?_
              refine e1 (fun q0 => ?_)
              subst q0
              exact go_sub [0] rfl hj99
            · refine im (go_iconst (pc := 94) (Y := YX2_readLine) (v := 1) dX2_readLine_94 rfl) ?_
              refine im (go_goto (pc := 95) (Y := YX2_readLine) 99 dX2_readLine_95 (by decide)) ?_
              refine e1 (fun q0 => ?_)
              subst q0
              exact go_sub [0] rfl hj99
          · refine im (go_aload_n (pc := 73) (Y := YX2_readLine) 0 dX2_readLine_73 rfl rfl) ?_
            refine kdg (fun k84 => ?_)
            refine bpg (fun s85 he86 => ?_)
            refine im (go_callV (pc := 74) (Y := YX2_readLine) (Yc := YX2_seesLine) (y := yX2_seesLine) (n := 0) (c0 := 2) (q := (RX2, TX2, 37)) this [] [] rfl rfl k84 (mX2_seesLine s15 he86) YOK_X2_seesLine rfl q1874 q133 q1873 qs85 q1871 (Nat.le_of_ble_eq_true rfl) (Nat.le_of_ble_eq_true rfl) (Nat.le_of_ble_eq_true rfl) dX2_readLine_74 (st2 := []) rfl) ?_
            clear he86
            refine im (go_goto (pc := 77) (Y := YX2_readLine) 250 dX2_readLine_77 (by decide)) ?_
            refine e1 (fun q0 => ?_)
            subst q0
            exact go_vret (pc := 250) (Y := YX2_readLine) rfl dX2_readLine_250
        clear h88
        revert he87
        refine flp2 (go_icmp_ge (pc := 59) (Y := YX2_readLine) 66 dX2_readLine_59 (by decide)) ?_ ?_
        · refine im (go_iconst (pc := 66) (Y := YX2_readLine) (v := 0) dX2_readLine_66 rfl) ?_
          refine e1 (fun q0 => ?_)
          subst q0
          exact go_sub [0] rfl hj67
        · refine im (go_iconst (pc := 62) (Y := YX2_readLine) (v := 1) dX2_readLine_62 rfl) ?_
          refine im (go_goto (pc := 63) (Y := YX2_readLine) 67 dX2_readLine_63 (by decide)) ?_
          refine e1 (fun q0 => ?_)
          subst q0
          exact go_sub [0] rfl hj67
      · refine im (go_aload_n (pc := 41) (Y := YX2_readLine) 0 dX2_readLine_41 rfl rfl) ?_
        refine kdg (fun k89 => ?_)
        refine bpg (fun s90 he91 => ?_)
        refine im (go_callV (pc := 42) (Y := YX2_readLine) (Yc := YX2_placeLine) (y := yX2_placeLine) (n := 0) (c0 := 2) (q := (RX2, TX2, 37)) this [] [] rfl rfl k89 (mX2_placeLine s8 he91) YOK_X2_placeLine rfl q1851 q133 q1850 qs81 q1848 (Nat.le_of_ble_eq_true rfl) (Nat.le_of_ble_eq_true rfl) (Nat.le_of_ble_eq_true rfl) dX2_readLine_42 (st2 := []) rfl) ?_
        clear he91
        refine im (go_goto (pc := 45) (Y := YX2_readLine) 250 dX2_readLine_45 (by decide)) ?_
        refine e1 (fun q0 => ?_)
        subst q0
        exact go_vret (pc := 250) (Y := YX2_readLine) rfl dX2_readLine_250
    clear h93
    revert he92
    refine flp2 (go_icmp_ge (pc := 27) (Y := YX2_readLine) 34 dX2_readLine_27 (by decide)) ?_ ?_
    · refine im (go_iconst (pc := 34) (Y := YX2_readLine) (v := 0) dX2_readLine_34 rfl) ?_
      refine e1 (fun q0 => ?_)
      subst q0
      exact go_sub [0] rfl hj35
    · refine im (go_iconst (pc := 30) (Y := YX2_readLine) (v := 1) dX2_readLine_30 rfl) ?_
      refine im (go_goto (pc := 31) (Y := YX2_readLine) 35 dX2_readLine_31 (by decide)) ?_
      refine e1 (fun q0 => ?_)
      subst q0
      exact go_sub [0] rfl hj35
  · refine im (go_aload_n (pc := 9) (Y := YX2_readLine) 0 dX2_readLine_9 rfl rfl) ?_
    refine kdg (fun k94 => ?_)
    refine bpg (fun s95 he96 => ?_)
    refine im (go_callV (pc := 10) (Y := YX2_readLine) (Yc := YX2_townLine) (y := yX2_townLine) (n := 0) (c0 := 2) (q := (RX2, TX2, 37)) this [] [] rfl rfl k94 (mX2_townLine s0 he96) YOK_X2_townLine rfl q1813 q133 q1812 qs72 q1810 (Nat.le_of_ble_eq_true rfl) (Nat.le_of_ble_eq_true rfl) (Nat.le_of_ble_eq_true rfl) dX2_readLine_10 (st2 := []) rfl) ?_
    clear he96
    refine im (go_goto (pc := 13) (Y := YX2_readLine) 250 dX2_readLine_13 (by decide)) ?_
    refine e1 (fun q0 => ?_)
    subst q0
    exact go_vret (pc := 250) (Y := YX2_readLine) rfl dX2_readLine_250
abbrev YX2_copy : mY := (RX2, cX2_copy, 6, (Option.none : Option Jvm.ClassFile.FieldType), 0, 0, false)
theorem YOK_X2_copy : YOK yX2_copy 5 := ⟨⟨by decide +kernel, by decide +kernel⟩, by decide +kernel⟩
theorem sX2_copy_L3_go {G : gG} {s0 sE : St} {rE : Option V3} (i0 : Option Nat) (i1 : Int32) (i2 : Option Nat) (i3 : Int32) (i4 : Int32) : ∀ (n : Nat) (s1 : St) (v2 : Int32) (s3 : St), sX2_copy_L3 i0 i1 i2 i3 i4 n s1 v2 = some s3 → Go G YX2_copy s0 sE rE 28 [] [] s3 → Go G YX2_copy s0 sE rE 3 [(0, rV i0), (1, iV i1), (2, rV i2), (3, iV i3), (4, iV i4), (5, iV v2)] [] s1 := by
  intro n
  induction n with
  | zero => intro s1 v2 s3 h hx; rw [sX2_copy_L3] at h; cases h
  | succ n ih =>
    intro s1 v2 s3 h hx
    revert h
    rw [sX2_copy_L3]
    refine im (go_iload (pc := 3) (Y := YX2_copy) 5 dX2_copy_3 rfl) ?_
    refine im (go_iload (pc := 5) (Y := YX2_copy) 4 dX2_copy_5 rfl) ?_
    refine flp2 (go_icmp_ge (pc := 7) (Y := YX2_copy) 28 dX2_copy_7 (by decide)) ?_ ?_
    · refine e1 (fun q0 => ?_)
      subst q0
      exact go_sub [] rfl hx
    · refine im (go_aload_n (pc := 10) (Y := YX2_copy) 2 dX2_copy_10 rfl rfl) ?_
      refine im (go_iload_n (pc := 11) (Y := YX2_copy) 3 dX2_copy_11 rfl rfl) ?_
      refine im (go_iload (pc := 12) (Y := YX2_copy) 5 dX2_copy_12 rfl) ?_
      refine im (go_iadd (pc := 14) (Y := YX2_copy) dX2_copy_14) ?_
      refine im (go_aload_n (pc := 15) (Y := YX2_copy) 0 dX2_copy_15 rfl rfl) ?_
      refine im (go_iload_n (pc := 16) (Y := YX2_copy) 1 dX2_copy_16 rfl rfl) ?_
      refine im (go_iload (pc := 17) (Y := YX2_copy) 5 dX2_copy_17 rfl) ?_
      refine im (go_iadd (pc := 19) (Y := YX2_copy) dX2_copy_19) ?_
      refine flp (go_lI1 (pc := 20) (Y := YX2_copy) dX2_copy_20) (fun v4 => ?_)
      refine flp (go_tI (pc := 21) (Y := YX2_copy) dX2_copy_21) (fun s5 => ?_)
      refine im (go_iinc (pc := 22) (Y := YX2_copy) 5 (v := (v2 + 1)) (ls2 := [(5, iV (v2 + 1)), (0, rV i0), (1, iV i1), (2, rV i2), (3, iV i3), (4, iV i4)]) dX2_copy_22 rfl rfl (Nat.le_of_ble_eq_true rfl) rfl) ?_
      refine im (go_goto (pc := 25) (Y := YX2_copy) 3 dX2_copy_25 (by decide)) ?_
      exact fun hq => go_sub [1, 2, 3, 4, 5, 0] rfl (ih _ _ _ hq hx)
theorem mX2_copy {G : gG} (s0 : St) {p0 : Option Nat} {p1 : Int32} {p2 : Option Nat} {p3 : Int32} {p4 : Int32} {sE : St} (h : sX2_copy s0 p0 p1 p2 p3 p4 = some sE) : Mt G YX2_copy yX2_copy [rV p0, iV p1, rV p2, iV p3, iV p4] s0 none sE := by
  refine go_start (ls0 := [(0, rV p0), (1, iV p1), (2, rV p2), (3, iV p3), (4, iV p4)]) (by decide +kernel) rfl (fun h => by cases h) (Nat.le_of_ble_eq_true rfl) rfl ?_
  revert h
  unfold sX2_copy
  refine im (go_iconst (pc := 0) (Y := YX2_copy) (v := 0) dX2_copy_0 rfl) ?_
  refine im (go_istore (pc := 1) (Y := YX2_copy) (ls2 := [(5, iV 0), (0, rV p0), (1, iV p1), (2, rV p2), (3, iV p3), (4, iV p4)]) dX2_copy_1 (Nat.le_of_ble_eq_true rfl) rfl) ?_
  refine bpg (fun s6 he7 h8 => ?_)
  refine go_sub [1, 2, 3, 4, 5, 0] rfl (sX2_copy_L3_go p0 p1 p2 p3 p4 FU _ _ _ he7 ?_)
  clear he7
  revert h8
  refine e1 (fun q0 => ?_)
  subst q0
  exact go_vret (pc := 28) (Y := YX2_copy) rfl dX2_copy_28
abbrev YX2_town : mY := (RX2, cX2_town, 3, (Option.some .int), 11, 238, false)
theorem YOK_X2_town : YOK yX2_town 1 := ⟨⟨by decide +kernel, by decide +kernel⟩, by decide +kernel⟩
theorem sX2_town_L39_go {G : gG} {s0 sE : St} {rE : Option V3} (this : Nat) (i1 : Int32) : ∀ (n : Nat) (s14 : St) (v15 : Int32) (s16 : St), sX2_town_L39 this n s14 v15 = some s16 → Go G YX2_town s0 sE rE 59 [(0, rV (some this)), (1, iV i1)] [] s16 → Go G YX2_town s0 sE rE 39 [(0, rV (some this)), (1, iV i1), (2, iV v15)] [] s14 := by
  intro n
  induction n with
  | zero => intro s14 v15 s16 h hx; rw [sX2_town_L39] at h; cases h
  | succ n ih =>
    intro s14 v15 s16 h hx
    revert h
    rw [sX2_town_L39]
    refine im (go_iload_n (pc := 39) (Y := YX2_town) 2 dX2_town_39 rfl rfl) ?_
    refine im (go_sipush (pc := 40) (Y := YX2_town) (v := 241) dX2_town_40 rfl) ?_
    refine flp2 (go_icmp_ge (pc := 43) (Y := YX2_town) 59 dX2_town_43 (by decide)) ?_ ?_
    · refine e1 (fun q0 => ?_)
      subst q0
      exact go_sub [0, 1] rfl hx
    · refine im (go_aload_n (pc := 46) (Y := YX2_town) 0 dX2_town_46 rfl rfl) ?_
      refine flp (go_gR (pc := 47) (Y := YX2_town) fF1012 (by decide) q1649 (Or.inl rfl) dX2_town_47) (fun v17 => ?_)
      refine im (go_iload_n (pc := 50) (Y := YX2_town) 2 dX2_town_50 rfl rfl) ?_
      refine im (go_iconst (pc := 51) (Y := YX2_town) (v := 0) dX2_town_51 rfl) ?_
      refine flp (go_tI (pc := 52) (Y := YX2_town) dX2_town_52) (fun s18 => ?_)
      refine im (go_iinc (pc := 53) (Y := YX2_town) 2 (v := (v15 + 1)) (ls2 := [(2, iV (v15 + 1)), (0, rV (some this)), (1, iV i1)]) dX2_town_53 rfl rfl (Nat.le_of_ble_eq_true rfl) rfl) ?_
      refine im (go_goto (pc := 56) (Y := YX2_town) 39 dX2_town_56 (by decide)) ?_
      exact fun hq => go_sub [1, 2, 0] rfl (ih _ _ _ hq hx)
theorem sX2_town_L77_go {G : gG} {s0 sE : St} {rE : Option V3} (this : Nat) : ∀ (n : Nat) (s28 : St) (s29 : St), sX2_town_L77 this n s28 = some s29 → Go G YX2_town s0 sE rE 104 [(0, rV (some this))] [] s29 → Go G YX2_town s0 sE rE 77 [(0, rV (some this))] [] s28 := by
  intro n
  induction n with
  | zero => intro s28 s29 h hx; rw [sX2_town_L77] at h; cases h
  | succ n ih =>
    intro s28 s29 h hx
    revert h
    rw [sX2_town_L77]
    refine im (go_aload_n (pc := 77) (Y := YX2_town) 0 dX2_town_77 rfl rfl) ?_
    refine flp (go_gI (pc := 78) (Y := YX2_town) fF30 (by decide) q1646 (Or.inl rfl) dX2_town_78) (fun v30 => ?_)
    refine flp2 (go_if_ne (pc := 81) (Y := YX2_town) 104 dX2_town_81 (by decide)) ?_ ?_
    · refine im (go_aload_n (pc := 84) (Y := YX2_town) 0 dX2_town_84 rfl rfl) ?_
      refine flp (go_gI (pc := 85) (Y := YX2_town) fF24 (by decide) q1639 (Or.inl rfl) dX2_town_85) (fun v31 => ?_)
      refine im (go_bipush (pc := 88) (Y := YX2_town) (v := 59) dX2_town_88 rfl) ?_
      refine flp2 (go_icmp_ne (pc := 90) (Y := YX2_town) 104 dX2_town_90 (by decide)) ?_ ?_
      · refine im (go_aload_n (pc := 93) (Y := YX2_town) 0 dX2_town_93 rfl rfl) ?_
        refine kdg (fun k32 => ?_)
        refine bpg (fun s33 he34 => ?_)
        refine im (go_callV (pc := 94) (Y := YX2_town) (Yc := YX2_next) (y := yX2_next) (n := 0) (c0 := 2) (q := (RX2, TX2, 37)) this [] [] rfl rfl k32 (mX2_next s28 he34) YOK_X2_next rfl q1771 q133 q1770 qs68 q1768 (Nat.le_of_ble_eq_true rfl) (Nat.le_of_ble_eq_true rfl) (Nat.le_of_ble_eq_true rfl) dX2_town_94 (st2 := []) rfl) ?_
        clear he34
        refine im (go_aload_n (pc := 97) (Y := YX2_town) 0 dX2_town_97 rfl rfl) ?_
        refine kdg (fun k35 => ?_)
        refine bpg (fun s36 he37 => ?_)
        refine im (go_callV (pc := 98) (Y := YX2_town) (Yc := YX2_readLine) (y := yX2_readLine) (n := 0) (c0 := 2) (q := (RX2, TX2, 37)) this [] [] rfl rfl k35 (mX2_readLine s33 he37) YOK_X2_readLine rfl q1785 q133 q1784 qs70 q1782 (Nat.le_of_ble_eq_true rfl) (Nat.le_of_ble_eq_true rfl) (Nat.le_of_ble_eq_true rfl) dX2_town_98 (st2 := []) rfl) ?_
        clear he37
        refine im (go_goto (pc := 101) (Y := YX2_town) 77 dX2_town_101 (by decide)) ?_
        exact fun hq => go_sub [0] rfl (ih _ _ hq hx)
      · refine e1 (fun q0 => ?_)
        subst q0
        exact go_sub [0] rfl hx
    · refine e1 (fun q0 => ?_)
      subst q0
      exact go_sub [0] rfl hx
theorem sX2_town_L194_go {G : gG} {s0 sE : St} {rE : Option V3} (this : Nat) : ∀ (n : Nat) (s48 : St) (v49 : Int32) (s50 : St), sX2_town_L194 this n s48 v49 = some s50 → Go G YX2_town s0 sE rE 213 [(0, rV (some this))] [] s50 → Go G YX2_town s0 sE rE 194 [(0, rV (some this)), (2, iV v49)] [] s48 := by
  intro n
  induction n with
  | zero => intro s48 v49 s50 h hx; rw [sX2_town_L194] at h; cases h
  | succ n ih =>
    intro s48 v49 s50 h hx
    revert h
    rw [sX2_town_L194]
    refine im (go_iload_n (pc := 194) (Y := YX2_town) 1 dX2_town_194 rfl rfl) ?_
    refine im (go_bipush (pc := 195) (Y := YX2_town) (v := 8) dX2_town_195 rfl) ?_
    refine flp2 (go_icmp_ge (pc := 197) (Y := YX2_town) 213 dX2_town_197 (by decide)) ?_ ?_
    · refine e1 (fun q0 => ?_)
      subst q0
      exact go_sub [0] rfl hx
    · refine im (go_aload_n (pc := 200) (Y := YX2_town) 0 dX2_town_200 rfl rfl) ?_
      refine flp (go_gR (pc := 201) (Y := YX2_town) fF1013 (by decide) q1650 (Or.inl rfl) dX2_town_201) (fun v51 => ?_)
      refine im (go_iload_n (pc := 204) (Y := YX2_town) 1 dX2_town_204 rfl rfl) ?_
      refine im (go_iconst (pc := 205) (Y := YX2_town) (v := 0) dX2_town_205 rfl) ?_
      refine flp (go_tI (pc := 206) (Y := YX2_town) dX2_town_206) (fun s52 => ?_)
      refine im (go_iinc (pc := 207) (Y := YX2_town) 1 (v := (v49 + 1)) (ls2 := [(2, iV (v49 + 1)), (0, rV (some this))]) dX2_town_207 rfl rfl (Nat.le_of_ble_eq_true rfl) rfl) ?_
      refine im (go_goto (pc := 210) (Y := YX2_town) 194 dX2_town_210 (by decide)) ?_
      exact fun hq => go_sub [1, 0] rfl (ih _ _ _ hq hx)
theorem mX2_town {G : gG} (s0 : St) {this : Nat} {p0 : Int32} {sE : St} {vE : Int32} (h : sX2_town s0 this p0 = some (sE, vE)) : Mt G YX2_town yX2_town [rV (some this), iV p0] s0 (some (iV vE)) sE := by
  refine go_start (ls0 := [(0, rV (some this)), (1, iV p0)]) (by decide +kernel) rfl (fun h => by cases h) (Nat.le_of_ble_eq_true rfl) rfl ?_
  revert h
  unfold sX2_town
  refine im (go_aload_n (pc := 0) (Y := YX2_town) 0 dX2_town_0 rfl rfl) ?_
  refine kdg (fun k1 => ?_)
  refine bpg (fun s2 he3 => ?_)
  refine im (go_callV (pc := 1) (Y := YX2_town) (Yc := YX2_good) (y := yX2_good) (n := 0) (c0 := 2) (q := (RX2, TX2, 37)) this [] [] rfl rfl k1 (mX2_good s0 he3) YOK_X2_good rfl q1760 q133 q1759 qs66 q1757 (Nat.le_of_ble_eq_true rfl) (Nat.le_of_ble_eq_true rfl) (Nat.le_of_ble_eq_true rfl) dX2_town_1 (st2 := []) rfl) ?_
  clear he3
  refine im (go_iload_n (pc := 4) (Y := YX2_town) 1 dX2_town_4 rfl rfl) ?_
  refine im (go_iconst (pc := 5) (Y := YX2_town) (v := 0) dX2_town_5 rfl) ?_
  refine im (go_aload_n (pc := 6) (Y := YX2_town) 0 dX2_town_6 rfl rfl) ?_
  refine flp (go_gI (pc := 7) (Y := YX2_town) fF20 (by decide) q1635 (Or.inl rfl) dX2_town_7) (fun v4 => ?_)
  refine bpg (fun v5 he6 => ?_)
  refine im (go_callS (pc := 10) (Y := YX2_town) (Yc := YX2_in) (y := yX2_in) (n := 3) [iV p0, iV 0, iV v4] [] rfl (mX2_in s2 he6) YOK_X2_in rfl q1763 q133 q1762 q1761 (Nat.le_of_ble_eq_true rfl) (Nat.le_of_ble_eq_true rfl) (Nat.le_of_ble_eq_true rfl) dX2_town_10 (st2 := [iV v5]) rfl) ?_
  clear he6
  refine flp2 (go_if_ne (pc := 13) (Y := YX2_town) 22 dX2_town_13 (by decide)) ?_ ?_
  · refine im (go_aload_n (pc := 16) (Y := YX2_town) 0 dX2_town_16 rfl rfl) ?_
    refine im (go_iconst (pc := 17) (Y := YX2_town) (v := 2) dX2_town_17 rfl) ?_
    refine kdg (fun k7 => ?_)
    refine bdg (fun s8 v9 he10 => ?_)
    refine im (go_callV (pc := 18) (Y := YX2_town) (Yc := YX2_no) (y := yX2_no) (n := 1) (c0 := 2) (q := (RX2, TX2, 37)) this [iV 2] [] rfl rfl k7 (mX2_no s2 he10) YOK_X2_no rfl q1767 q133 q1766 qs67 q1764 (Nat.le_of_ble_eq_true rfl) (Nat.le_of_ble_eq_true rfl) (Nat.le_of_ble_eq_true rfl) dX2_town_18 (st2 := [iV v9]) rfl) ?_
    clear he10
    refine e2 (fun q0 q1 => ?_)
    subst q0
    subst q1
    exact go_iret (pc := 21) (Y := YX2_town) rfl dX2_town_21
  · refine im (go_aload_n (pc := 22) (Y := YX2_town) 0 dX2_town_22 rfl rfl) ?_
    refine im (go_iconst (pc := 23) (Y := YX2_town) (v := 0) dX2_town_23 rfl) ?_
    refine flp (go_pI (pc := 24) (Y := YX2_town) fF20 (by decide) q1635 (Or.inl rfl) (Or.inl rfl) rfl rfl rfl dX2_town_24) (fun s11 => ?_)
    refine im (go_aload_n (pc := 27) (Y := YX2_town) 0 dX2_town_27 rfl rfl) ?_
    refine im (go_iconst (pc := 28) (Y := YX2_town) (v := 0) dX2_town_28 rfl) ?_
    refine flp (go_pI (pc := 29) (Y := YX2_town) fF27 (by decide) q1642 (Or.inl rfl) (Or.inl rfl) rfl rfl rfl dX2_town_29) (fun s12 => ?_)
    refine im (go_aload_n (pc := 32) (Y := YX2_town) 0 dX2_town_32 rfl rfl) ?_
    refine im (go_iconst (pc := 33) (Y := YX2_town) (v := 0) dX2_town_33 rfl) ?_
    refine flp (go_pI (pc := 34) (Y := YX2_town) fF30 (by decide) q1646 (Or.inl rfl) (Or.inl rfl) rfl rfl rfl dX2_town_34) (fun s13 => ?_)
    refine im (go_iconst (pc := 37) (Y := YX2_town) (v := 0) dX2_town_37 rfl) ?_
    refine im (go_istore_n (pc := 38) (Y := YX2_town) (ls2 := [(2, iV 0), (0, rV (some this)), (1, iV p0)]) dX2_town_38 rfl (Nat.le_of_ble_eq_true rfl) rfl) ?_
    refine bpg (fun s19 he88 h89 => ?_)
    refine go_sub [1, 2, 0] rfl (sX2_town_L39_go this p0 FU _ _ _ he88 ?_)
    clear he88
    revert h89
    refine im (go_aload_n (pc := 59) (Y := YX2_town) 0 dX2_town_59 rfl rfl) ?_
    refine im (go_iload_n (pc := 60) (Y := YX2_town) 1 dX2_town_60 rfl rfl) ?_
    refine flp (go_pI (pc := 61) (Y := YX2_town) fF21 (by decide) q1636 (Or.inl rfl) (Or.inl rfl) rfl rfl rfl dX2_town_61) (fun s20 => ?_)
    refine im (go_aload_n (pc := 64) (Y := YX2_town) 0 dX2_town_64 rfl rfl) ?_
    refine im (go_iconst (pc := 65) (Y := YX2_town) (v := 0) dX2_town_65 rfl) ?_
    refine flp (go_pI (pc := 66) (Y := YX2_town) fF23 (by decide) q1638 (Or.inl rfl) (Or.inl rfl) rfl rfl rfl dX2_town_66) (fun s21 => ?_)
    refine im (go_aload_n (pc := 69) (Y := YX2_town) 0 dX2_town_69 rfl rfl) ?_
    refine kdg (fun k22 => ?_)
    refine bpg (fun s23 he24 => ?_)
    refine im (go_callV (pc := 70) (Y := YX2_town) (Yc := YX2_next) (y := yX2_next) (n := 0) (c0 := 2) (q := (RX2, TX2, 37)) this [] [] rfl rfl k22 (mX2_next s21 he24) YOK_X2_next rfl q1771 q133 q1770 qs68 q1768 (Nat.le_of_ble_eq_true rfl) (Nat.le_of_ble_eq_true rfl) (Nat.le_of_ble_eq_true rfl) dX2_town_70 (st2 := []) rfl) ?_
    clear he24
    refine im (go_aload_n (pc := 73) (Y := YX2_town) 0 dX2_town_73 rfl rfl) ?_
    refine kdg (fun k25 => ?_)
    refine bpg (fun s26 he27 => ?_)
    refine im (go_callV (pc := 74) (Y := YX2_town) (Yc := YX2_readLine) (y := yX2_readLine) (n := 0) (c0 := 2) (q := (RX2, TX2, 37)) this [] [] rfl rfl k25 (mX2_readLine s23 he27) YOK_X2_readLine rfl q1785 q133 q1784 qs70 q1782 (Nat.le_of_ble_eq_true rfl) (Nat.le_of_ble_eq_true rfl) (Nat.le_of_ble_eq_true rfl) dX2_town_74 (st2 := []) rfl) ?_
    clear he27
    refine bpg (fun s38 he86 h87 => ?_)
    refine go_sub [0] rfl (sX2_town_L77_go this FU _ _ he86 ?_)
    clear he86
    revert h87
    refine im (go_aload_n (pc := 104) (Y := YX2_town) 0 dX2_town_104 rfl rfl) ?_
    refine flp (go_gI (pc := 105) (Y := YX2_town) fF30 (by decide) q1646 (Or.inl rfl) dX2_town_105) (fun v39 => ?_)
    refine bpg (fun s40 he84 h85 => ?_)
    have hj127 : Go G YX2_town s0 sE (some (iV vE)) 127 [(0, rV (some this))] [] s40 := by
      clear he84
      revert h85
      refine im (go_aload_n (pc := 127) (Y := YX2_town) 0 dX2_town_127 rfl rfl) ?_
      refine flp (go_gI (pc := 128) (Y := YX2_town) fF30 (by decide) q1646 (Or.inl rfl) dX2_town_128) (fun v41 => ?_)
      refine bpg (fun s42 he77 h78 => ?_)
      have hj163 : Go G YX2_town s0 sE (some (iV vE)) 163 [(0, rV (some this))] [] s42 := by
        clear he77
        revert h78
        refine im (go_aload_n (pc := 163) (Y := YX2_town) 0 dX2_town_163 rfl rfl) ?_
        refine flp (go_gI (pc := 164) (Y := YX2_town) fF30 (by decide) q1646 (Or.inl rfl) dX2_town_164) (fun v43 => ?_)
        refine flp2 (go_if_eq (pc := 167) (Y := YX2_town) 176 dX2_town_167 (by decide)) ?_ ?_
        · refine im (go_aload_n (pc := 176) (Y := YX2_town) 0 dX2_town_176 rfl rfl) ?_
          refine flp (go_gR (pc := 177) (Y := YX2_town) fF1012 (by decide) q1649 (Or.inl rfl) dX2_town_177) (fun v44 => ?_)
          refine im (go_iconst (pc := 180) (Y := YX2_town) (v := 0) dX2_town_180 rfl) ?_
          refine im (go_aload_n (pc := 181) (Y := YX2_town) 0 dX2_town_181 rfl rfl) ?_
          refine flp (go_gR (pc := 182) (Y := YX2_town) fF1011 (by decide) q1648 (Or.inl rfl) dX2_town_182) (fun v45 => ?_)
          refine im (go_iconst (pc := 185) (Y := YX2_town) (v := 0) dX2_town_185 rfl) ?_
          refine im (go_sipush (pc := 186) (Y := YX2_town) (v := 241) dX2_town_186 rfl) ?_
          refine bpg (fun s46 he47 => ?_)
          refine im (go_callS (pc := 189) (Y := YX2_town) (Yc := YX2_copy) (y := yX2_copy) (n := 5) [rV v44, iV 0, rV v45, iV 0, iV 241] [] rfl (mX2_copy s42 he47) YOK_X2_copy rfl q1926 q133 q1925 q1924 (Nat.le_of_ble_eq_true rfl) (Nat.le_of_ble_eq_true rfl) (Nat.le_of_ble_eq_true rfl) dX2_town_189 (st2 := []) rfl) ?_
          clear he47
          refine im (go_iconst (pc := 192) (Y := YX2_town) (v := 0) dX2_town_192 rfl) ?_
          refine im (go_istore_n (pc := 193) (Y := YX2_town) (ls2 := [(2, iV 0), (0, rV (some this))]) dX2_town_193 rfl (Nat.le_of_ble_eq_true rfl) rfl) ?_
          refine bpg (fun s53 he59 h60 => ?_)
          refine go_sub [1, 0] rfl (sX2_town_L194_go this FU _ _ _ he59 ?_)
          clear he59
          revert h60
          refine im (go_aload_n (pc := 213) (Y := YX2_town) 0 dX2_town_213 rfl rfl) ?_
          refine im (go_iconst (pc := 214) (Y := YX2_town) (v := 1) dX2_town_214 rfl) ?_
          refine flp (go_pI (pc := 215) (Y := YX2_town) fF31 (by decide) q1647 (Or.inl rfl) (Or.inl rfl) rfl rfl rfl dX2_town_215) (fun s54 => ?_)
          refine im (go_aload_n (pc := 218) (Y := YX2_town) 0 dX2_town_218 rfl rfl) ?_
          refine im (go_iconst (pc := 219) (Y := YX2_town) (v := 0) dX2_town_219 rfl) ?_
          refine flp (go_pI (pc := 220) (Y := YX2_town) fF32 (by decide) q1653 (Or.inl rfl) (Or.inl rfl) rfl rfl rfl dX2_town_220) (fun s55 => ?_)
          refine im (go_aload_n (pc := 223) (Y := YX2_town) 0 dX2_town_223 rfl rfl) ?_
          refine im (go_iconst (pc := 224) (Y := YX2_town) (v := 0) dX2_town_224 rfl) ?_
          refine flp (go_pI (pc := 225) (Y := YX2_town) fF33 (by decide) q1654 (Or.inl rfl) (Or.inl rfl) rfl rfl rfl dX2_town_225) (fun s56 => ?_)
          refine im (go_aload_n (pc := 228) (Y := YX2_town) 0 dX2_town_228 rfl rfl) ?_
          refine flp (go_gR (pc := 229) (Y := YX2_town) fF1011 (by decide) q1648 (Or.inl rfl) dX2_town_229) (fun v57 => ?_)
          refine im (go_iconst (pc := 232) (Y := YX2_town) (v := 1) dX2_town_232 rfl) ?_
          refine flp (go_lI1 (pc := 233) (Y := YX2_town) dX2_town_233) (fun v58 => ?_)
          refine e2 (fun q0 q1 => ?_)
          subst q0
          subst q1
          exact go_iret (pc := 234) (Y := YX2_town) rfl dX2_town_234
        · refine im (go_aload_n (pc := 170) (Y := YX2_town) 0 dX2_town_170 rfl rfl) ?_
          refine im (go_iconst (pc := 171) (Y := YX2_town) (v := 4) dX2_town_171 rfl) ?_
          refine kdg (fun k61 => ?_)
          refine bdg (fun s62 v63 he64 => ?_)
          refine im (go_callV (pc := 172) (Y := YX2_town) (Yc := YX2_no) (y := yX2_no) (n := 1) (c0 := 2) (q := (RX2, TX2, 37)) this [iV 4] [] rfl rfl k61 (mX2_no s42 he64) YOK_X2_no rfl q1767 q133 q1766 qs67 q1764 (Nat.le_of_ble_eq_true rfl) (Nat.le_of_ble_eq_true rfl) (Nat.le_of_ble_eq_true rfl) dX2_town_172 (st2 := [iV v63]) rfl) ?_
          clear he64
          refine e2 (fun q0 q1 => ?_)
          subst q0
          subst q1
          exact go_iret (pc := 175) (Y := YX2_town) rfl dX2_town_175
      clear h78
      revert he77
      refine flp2 (go_if_ne (pc := 131) (Y := YX2_town) 163 dX2_town_131 (by decide)) ?_ ?_
      · refine im (go_aload_n (pc := 134) (Y := YX2_town) 0 dX2_town_134 rfl rfl) ?_
        refine flp (go_gR (pc := 135) (Y := YX2_town) fF1012 (by decide) q1649 (Or.inl rfl) dX2_town_135) (fun v65 => ?_)
        refine im (go_bipush (pc := 138) (Y := YX2_town) (v := 9) dX2_town_138 rfl) ?_
        refine flp (go_lI1 (pc := 140) (Y := YX2_town) dX2_town_140) (fun v66 => ?_)
        refine flp2 (go_if_eq (pc := 141) (Y := YX2_town) 153 dX2_town_141 (by decide)) ?_ ?_
        · refine im (go_aload_n (pc := 153) (Y := YX2_town) 0 dX2_town_153 rfl rfl) ?_
          refine im (go_bipush (pc := 154) (Y := YX2_town) (v := 6) dX2_town_154 rfl) ?_
          refine im (go_aload_n (pc := 156) (Y := YX2_town) 0 dX2_town_156 rfl rfl) ?_
          refine flp (go_gI (pc := 157) (Y := YX2_town) fF22 (by decide) q1637 (Or.inl rfl) dX2_town_157) (fun v67 => ?_)
          refine kdg (fun k68 => ?_)
          refine bpg (fun s69 he70 => ?_)
          refine im (go_callV (pc := 160) (Y := YX2_town) (Yc := YX2_wrong) (y := yX2_wrong) (n := 2) (c0 := 2) (q := (RX2, TX2, 37)) this [iV 6, iV v67] [] rfl rfl k68 (mX2_wrong s40 he70) YOK_X2_wrong rfl q1817 q133 q1816 qs73 q1814 (Nat.le_of_ble_eq_true rfl) (Nat.le_of_ble_eq_true rfl) (Nat.le_of_ble_eq_true rfl) dX2_town_160 (st2 := []) rfl) ?_
          clear he70
          refine e1 (fun q0 => ?_)
          subst q0
          exact go_sub [0] rfl hj163
        · refine im (go_aload_n (pc := 144) (Y := YX2_town) 0 dX2_town_144 rfl rfl) ?_
          refine flp (go_gR (pc := 145) (Y := YX2_town) fF1012 (by decide) q1649 (Or.inl rfl) dX2_town_145) (fun v71 => ?_)
          refine im (go_iconst (pc := 148) (Y := YX2_town) (v := 1) dX2_town_148 rfl) ?_
          refine flp (go_lI1 (pc := 149) (Y := YX2_town) dX2_town_149) (fun v72 => ?_)
          refine flp2 (go_if_ne (pc := 150) (Y := YX2_town) 163 dX2_town_150 (by decide)) ?_ ?_
          · refine im (go_aload_n (pc := 153) (Y := YX2_town) 0 dX2_town_153 rfl rfl) ?_
            refine im (go_bipush (pc := 154) (Y := YX2_town) (v := 6) dX2_town_154 rfl) ?_
            refine im (go_aload_n (pc := 156) (Y := YX2_town) 0 dX2_town_156 rfl rfl) ?_
            refine flp (go_gI (pc := 157) (Y := YX2_town) fF22 (by decide) q1637 (Or.inl rfl) dX2_town_157) (fun v73 => ?_)
            refine kdg (fun k74 => ?_)
            refine bpg (fun s75 he76 => ?_)
            refine im (go_callV (pc := 160) (Y := YX2_town) (Yc := YX2_wrong) (y := yX2_wrong) (n := 2) (c0 := 2) (q := (RX2, TX2, 37)) this [iV 6, iV v73] [] rfl rfl k74 (mX2_wrong s40 he76) YOK_X2_wrong rfl q1817 q133 q1816 qs73 q1814 (Nat.le_of_ble_eq_true rfl) (Nat.le_of_ble_eq_true rfl) (Nat.le_of_ble_eq_true rfl) dX2_town_160 (st2 := []) rfl) ?_
            clear he76
            refine e1 (fun q0 => ?_)
            subst q0
            exact go_sub [0] rfl hj163
          · refine e1 (fun q0 => ?_)
            subst q0
            exact go_sub [0] rfl hj163
      · refine e1 (fun q0 => ?_)
        subst q0
        exact go_sub [0] rfl hj163
    clear h85
    revert he84
    refine flp2 (go_if_ne (pc := 108) (Y := YX2_town) 127 dX2_town_108 (by decide)) ?_ ?_
    · refine im (go_aload_n (pc := 111) (Y := YX2_town) 0 dX2_town_111 rfl rfl) ?_
      refine flp (go_gI (pc := 112) (Y := YX2_town) fF24 (by decide) q1639 (Or.inl rfl) dX2_town_112) (fun v79 => ?_)
      refine flp2 (go_if_eq (pc := 115) (Y := YX2_town) 127 dX2_town_115 (by decide)) ?_ ?_
      · refine e1 (fun q0 => ?_)
        subst q0
        exact go_sub [0] rfl hj127
      · refine im (go_aload_n (pc := 118) (Y := YX2_town) 0 dX2_town_118 rfl rfl) ?_
        refine im (go_iconst (pc := 119) (Y := YX2_town) (v := 1) dX2_town_119 rfl) ?_
        refine im (go_aload_n (pc := 120) (Y := YX2_town) 0 dX2_town_120 rfl rfl) ?_
        refine flp (go_gI (pc := 121) (Y := YX2_town) fF22 (by decide) q1637 (Or.inl rfl) dX2_town_121) (fun v80 => ?_)
        refine kdg (fun k81 => ?_)
        refine bpg (fun s82 he83 => ?_)
        refine im (go_callV (pc := 124) (Y := YX2_town) (Yc := YX2_wrong) (y := yX2_wrong) (n := 2) (c0 := 2) (q := (RX2, TX2, 37)) this [iV 1, iV v80] [] rfl rfl k81 (mX2_wrong s38 he83) YOK_X2_wrong rfl q1817 q133 q1816 qs73 q1814 (Nat.le_of_ble_eq_true rfl) (Nat.le_of_ble_eq_true rfl) (Nat.le_of_ble_eq_true rfl) dX2_town_124 (st2 := []) rfl) ?_
        clear he83
        refine e1 (fun q0 => ?_)
        subst q0
        exact go_sub [0] rfl hj127
    · refine e1 (fun q0 => ?_)
      subst q0
      exact go_sub [0] rfl hj127
abbrev YX2_fault : mY := (RX2, cX2_fault, 1, (Option.some .int), 0, 0, false)
theorem YOK_X2_fault : YOK yX2_fault 0 := ⟨⟨by decide +kernel, by decide +kernel⟩, by decide +kernel⟩
theorem mX2_fault {G : gG} (s0 : St) {this : Nat} {sE : St} {vE : Int32} (h : sX2_fault s0 this = some (sE, vE)) : Mt G YX2_fault yX2_fault [rV (some this)] s0 (some (iV vE)) sE := by
  refine go_start (ls0 := [(0, rV (some this))]) (by decide +kernel) rfl (fun h => by cases h) (Nat.le_of_ble_eq_true rfl) rfl ?_
  revert h
  unfold sX2_fault
  refine im (go_aload_n (pc := 0) (Y := YX2_fault) 0 dX2_fault_0 rfl rfl) ?_
  refine im (go_iconst (pc := 1) (Y := YX2_fault) (v := 0) dX2_fault_1 rfl) ?_
  refine flp (go_pI (pc := 2) (Y := YX2_fault) fF19 (by decide) q1633 (Or.inl rfl) (Or.inl rfl) rfl rfl rfl dX2_fault_2) (fun s1 => ?_)
  refine im (go_aload_n (pc := 5) (Y := YX2_fault) 0 dX2_fault_5 rfl rfl) ?_
  refine flp (go_gI (pc := 6) (Y := YX2_fault) fF27 (by decide) q1642 (Or.inl rfl) dX2_fault_6) (fun v2 => ?_)
  refine e2 (fun q0 q1 => ?_)
  subst q0
  subst q1
  exact go_iret (pc := 9) (Y := YX2_fault) rfl dX2_fault_9
abbrev YX2_where : mY := (RX2, cX2_where, 1, (Option.some .int), 0, 0, false)
theorem YOK_X2_where : YOK yX2_where 0 := ⟨⟨by decide +kernel, by decide +kernel⟩, by decide +kernel⟩
theorem mX2_where {G : gG} (s0 : St) {this : Nat} {sE : St} {vE : Int32} (h : sX2_where s0 this = some (sE, vE)) : Mt G YX2_where yX2_where [rV (some this)] s0 (some (iV vE)) sE := by
  refine go_start (ls0 := [(0, rV (some this))]) (by decide +kernel) rfl (fun h => by cases h) (Nat.le_of_ble_eq_true rfl) rfl ?_
  revert h
  unfold sX2_where
  refine im (go_aload_n (pc := 0) (Y := YX2_where) 0 dX2_where_0 rfl rfl) ?_
  refine im (go_iconst (pc := 1) (Y := YX2_where) (v := 0) dX2_where_1 rfl) ?_
  refine flp (go_pI (pc := 2) (Y := YX2_where) fF19 (by decide) q1633 (Or.inl rfl) (Or.inl rfl) rfl rfl rfl dX2_where_2) (fun s1 => ?_)
  refine im (go_aload_n (pc := 5) (Y := YX2_where) 0 dX2_where_5 rfl rfl) ?_
  refine flp (go_gI (pc := 6) (Y := YX2_where) fF29 (by decide) q1644 (Or.inl rfl) dX2_where_6) (fun v2 => ?_)
  refine im (go_iconst (pc := 9) (Y := YX2_where) (v := 4) dX2_where_9 rfl) ?_
  refine flp2 (go_icmp_ne (pc := 10) (Y := YX2_where) 20 dX2_where_10 (by decide)) ?_ ?_
  · refine im (go_aload_n (pc := 13) (Y := YX2_where) 0 dX2_where_13 rfl rfl) ?_
    refine flp (go_gI (pc := 14) (Y := YX2_where) fF28 (by decide) q1643 (Or.inl rfl) dX2_where_14) (fun v3 => ?_)
    refine im (go_goto (pc := 17) (Y := YX2_where) 21 dX2_where_17 (by decide)) ?_
    refine e2 (fun q0 q1 => ?_)
    subst q0
    subst q1
    exact go_iret (pc := 21) (Y := YX2_where) rfl dX2_where_21
  · refine im (go_iconst (pc := 20) (Y := YX2_where) (v := -1) dX2_where_20 rfl) ?_
    refine e2 (fun q0 q1 => ?_)
    subst q0
    subst q1
    exact go_iret (pc := 21) (Y := YX2_where) rfl dX2_where_21
abbrev YX2_isPerson : mY := (RX2, cX2_isPerson, 2, (Option.some .boolean), 1, 22, false)
theorem YOK_X2_isPerson : YOK yX2_isPerson 1 := ⟨⟨by decide +kernel, by decide +kernel⟩, by decide +kernel⟩
theorem mX2_isPerson {G : gG} (s0 : St) {this : Nat} {p0 : Int32} {vE : Int32} (h : sX2_isPerson s0 this p0 = some vE) : Mt G YX2_isPerson yX2_isPerson [rV (some this), iV p0] s0 (some (iV vE)) s0 := by
  refine go_start (ls0 := [(0, rV (some this)), (1, iV p0)]) (by decide +kernel) rfl (fun h => by cases h) (Nat.le_of_ble_eq_true rfl) rfl ?_
  revert h
  unfold sX2_isPerson
  refine im (go_aload_n (pc := 0) (Y := YX2_isPerson) 0 dX2_isPerson_0 rfl rfl) ?_
  refine flp (go_gI (pc := 1) (Y := YX2_isPerson) fF31 (by decide) q1647 (Or.inl rfl) dX2_isPerson_1) (fun v1 => ?_)
  refine flp2 (go_if_eq (pc := 4) (Y := YX2_isPerson) 27 dX2_isPerson_4 (by decide)) ?_ ?_
  · refine im (go_iconst (pc := 27) (Y := YX2_isPerson) (v := 0) dX2_isPerson_27 rfl) ?_
    refine e1 (fun q0 => ?_)
    subst q0
    exact go_zret (pc := 28) (Y := YX2_isPerson) rfl rfl dX2_isPerson_28
  · refine im (go_iload_n (pc := 7) (Y := YX2_isPerson) 1 dX2_isPerson_7 rfl rfl) ?_
    refine im (go_iconst (pc := 8) (Y := YX2_isPerson) (v := 0) dX2_isPerson_8 rfl) ?_
    refine im (go_aload_n (pc := 9) (Y := YX2_isPerson) 0 dX2_isPerson_9 rfl rfl) ?_
    refine flp (go_gR (pc := 10) (Y := YX2_isPerson) fF1011 (by decide) q1648 (Or.inl rfl) dX2_isPerson_10) (fun v2 => ?_)
    refine im (go_iconst (pc := 13) (Y := YX2_isPerson) (v := 3) dX2_isPerson_13 rfl) ?_
    refine flp (go_lI1 (pc := 14) (Y := YX2_isPerson) dX2_isPerson_14) (fun v3 => ?_)
    refine im (go_iconst (pc := 15) (Y := YX2_isPerson) (v := 1) dX2_isPerson_15 rfl) ?_
    refine im (go_isub (pc := 16) (Y := YX2_isPerson) dX2_isPerson_16) ?_
    refine bpg (fun v4 he5 => ?_)
    refine im (go_callS (pc := 17) (Y := YX2_isPerson) (Yc := YX2_in) (y := yX2_in) (n := 3) [iV p0, iV 0, iV (v3 - 1)] [] rfl (mX2_in s0 he5) YOK_X2_in rfl q1763 q133 q1762 q1761 (Nat.le_of_ble_eq_true rfl) (Nat.le_of_ble_eq_true rfl) (Nat.le_of_ble_eq_true rfl) dX2_isPerson_17 (st2 := [iV v4]) rfl) ?_
    clear he5
    refine flp2 (go_if_eq (pc := 20) (Y := YX2_isPerson) 27 dX2_isPerson_20 (by decide)) ?_ ?_
    · refine im (go_iconst (pc := 27) (Y := YX2_isPerson) (v := 0) dX2_isPerson_27 rfl) ?_
      refine e1 (fun q0 => ?_)
      subst q0
      exact go_zret (pc := 28) (Y := YX2_isPerson) rfl rfl dX2_isPerson_28
    · refine im (go_iconst (pc := 23) (Y := YX2_isPerson) (v := 1) dX2_isPerson_23 rfl) ?_
      refine im (go_goto (pc := 24) (Y := YX2_isPerson) 28 dX2_isPerson_24 (by decide)) ?_
      refine e1 (fun q0 => ?_)
      subst q0
      exact go_zret (pc := 28) (Y := YX2_isPerson) rfl rfl dX2_isPerson_28
abbrev YX2_eyesOfKind : mY := (RX2, cX2_eyesOfKind, 1, (Option.some .int), 0, 0, false)
theorem YOK_X2_eyesOfKind : YOK yX2_eyesOfKind 1 := ⟨⟨by decide +kernel, by decide +kernel⟩, by decide +kernel⟩
theorem mX2_eyesOfKind {G : gG} (s0 : St) {p0 : Int32} {vE : Int32} (h : sX2_eyesOfKind s0 p0 = some vE) : Mt G YX2_eyesOfKind yX2_eyesOfKind [iV p0] s0 (some (iV vE)) s0 := by
  refine go_start (ls0 := [(0, iV p0)]) (by decide +kernel) rfl (fun h => by cases h) (Nat.le_of_ble_eq_true rfl) rfl ?_
  revert h
  unfold sX2_eyesOfKind
  refine im (go_iload_n (pc := 0) (Y := YX2_eyesOfKind) 0 dX2_eyesOfKind_0 rfl rfl) ?_
  refine im (go_iconst (pc := 1) (Y := YX2_eyesOfKind) (v := 2) dX2_eyesOfKind_1 rfl) ?_
  refine flp2 (go_icmp_ne (pc := 2) (Y := YX2_eyesOfKind) 9 dX2_eyesOfKind_2 (by decide)) ?_ ?_
  · refine im (go_iconst (pc := 5) (Y := YX2_eyesOfKind) (v := 0) dX2_eyesOfKind_5 rfl) ?_
    refine im (go_goto (pc := 6) (Y := YX2_eyesOfKind) 19 dX2_eyesOfKind_6 (by decide)) ?_
    refine e1 (fun q0 => ?_)
    subst q0
    exact go_iret (pc := 19) (Y := YX2_eyesOfKind) rfl dX2_eyesOfKind_19
  · refine im (go_iload_n (pc := 9) (Y := YX2_eyesOfKind) 0 dX2_eyesOfKind_9 rfl rfl) ?_
    refine im (go_iconst (pc := 10) (Y := YX2_eyesOfKind) (v := 3) dX2_eyesOfKind_10 rfl) ?_
    refine flp2 (go_icmp_ne (pc := 11) (Y := YX2_eyesOfKind) 18 dX2_eyesOfKind_11 (by decide)) ?_ ?_
    · refine im (go_iconst (pc := 14) (Y := YX2_eyesOfKind) (v := 1) dX2_eyesOfKind_14 rfl) ?_
      refine im (go_goto (pc := 15) (Y := YX2_eyesOfKind) 19 dX2_eyesOfKind_15 (by decide)) ?_
      refine e1 (fun q0 => ?_)
      subst q0
      exact go_iret (pc := 19) (Y := YX2_eyesOfKind) rfl dX2_eyesOfKind_19
    · refine im (go_iconst (pc := 18) (Y := YX2_eyesOfKind) (v := 2) dX2_eyesOfKind_18 rfl) ?_
      refine e1 (fun q0 => ?_)
      subst q0
      exact go_iret (pc := 19) (Y := YX2_eyesOfKind) rfl dX2_eyesOfKind_19
abbrev YX2_quarrelsOf : mY := (RX2, cX2_quarrelsOf, 4, (Option.some .int), 0, 0, false)
theorem YOK_X2_quarrelsOf : YOK yX2_quarrelsOf 1 := ⟨⟨by decide +kernel, by decide +kernel⟩, by decide +kernel⟩
theorem sX2_quarrelsOf_L4_go {G : gG} {s0 sE : St} {rE : Option V3} (s1 : St) (this : Nat) (i1 : Int32) : ∀ (n : Nat) (v2 : Int32) (v3 : Int32) (v4 : Int32), sX2_quarrelsOf_L4 s1 this i1 n v2 v3 = some v4 → Go G YX2_quarrelsOf s0 sE rE 62 [(2, iV v4)] [] s1 → Go G YX2_quarrelsOf s0 sE rE 4 [(0, rV (some this)), (1, iV i1), (2, iV v2), (3, iV v3)] [] s1 := by
  intro n
  induction n with
  | zero => intro v2 v3 v4 h hx; rw [sX2_quarrelsOf_L4] at h; cases h
  | succ n ih =>
    intro v2 v3 v4 h hx
    revert h
    rw [sX2_quarrelsOf_L4]
    refine im (go_iload_n (pc := 4) (Y := YX2_quarrelsOf) 3 dX2_quarrelsOf_4 rfl rfl) ?_
    refine im (go_aload_n (pc := 5) (Y := YX2_quarrelsOf) 0 dX2_quarrelsOf_5 rfl rfl) ?_
    refine flp (go_gR (pc := 6) (Y := YX2_quarrelsOf) fF1011 (by decide) q1648 (Or.inl rfl) dX2_quarrelsOf_6) (fun v5 => ?_)
    refine im (go_iconst (pc := 9) (Y := YX2_quarrelsOf) (v := 5) dX2_quarrelsOf_9 rfl) ?_
    refine flp (go_lI1 (pc := 10) (Y := YX2_quarrelsOf) dX2_quarrelsOf_10) (fun v6 => ?_)
    refine flp2 (go_icmp_ge (pc := 11) (Y := YX2_quarrelsOf) 62 dX2_quarrelsOf_11 (by decide)) ?_ ?_
    · refine e1 (fun q0 => ?_)
      subst q0
      exact go_sub [2] rfl hx
    · refine im (go_iload_n (pc := 14) (Y := YX2_quarrelsOf) 2 dX2_quarrelsOf_14 rfl rfl) ?_
      refine im (go_aload_n (pc := 15) (Y := YX2_quarrelsOf) 0 dX2_quarrelsOf_15 rfl rfl) ?_
      refine flp (go_gR (pc := 16) (Y := YX2_quarrelsOf) fF1011 (by decide) q1648 (Or.inl rfl) dX2_quarrelsOf_16) (fun v7 => ?_)
      refine im (go_bipush (pc := 19) (Y := YX2_quarrelsOf) (v := 80) dX2_quarrelsOf_19 rfl) ?_
      refine im (go_iconst (pc := 21) (Y := YX2_quarrelsOf) (v := 5) dX2_quarrelsOf_21 rfl) ?_
      refine im (go_iload_n (pc := 22) (Y := YX2_quarrelsOf) 3 dX2_quarrelsOf_22 rfl rfl) ?_
      refine im (go_imul (pc := 23) (Y := YX2_quarrelsOf) dX2_quarrelsOf_23) ?_
      refine im (go_iadd (pc := 24) (Y := YX2_quarrelsOf) dX2_quarrelsOf_24) ?_
      refine flp (go_lI1 (pc := 25) (Y := YX2_quarrelsOf) dX2_quarrelsOf_25) (fun v8 => ?_)
      refine im (go_iload_n (pc := 26) (Y := YX2_quarrelsOf) 1 dX2_quarrelsOf_26 rfl rfl) ?_
      refine bpg (fun v9 he12 h13 => ?_)
      have hj54 : Go G YX2_quarrelsOf s0 sE rE 54 [(0, rV (some this)), (1, iV i1), (3, iV v3)] [iV v9, iV v2] s1 := by
        clear he12
        revert h13
        refine im (go_ior (pc := 54) (Y := YX2_quarrelsOf) dX2_quarrelsOf_54) ?_
        refine im (go_istore_n (pc := 55) (Y := YX2_quarrelsOf) (ls2 := [(2, iV (v2 ||| v9)), (0, rV (some this)), (1, iV i1), (3, iV v3)]) dX2_quarrelsOf_55 rfl (Nat.le_of_ble_eq_true rfl) rfl) ?_
        refine im (go_iinc (pc := 56) (Y := YX2_quarrelsOf) 3 (v := (v3 + 1)) (ls2 := [(3, iV (v3 + 1)), (2, iV (v2 ||| v9)), (0, rV (some this)), (1, iV i1)]) dX2_quarrelsOf_56 rfl rfl (Nat.le_of_ble_eq_true rfl) rfl) ?_
        refine im (go_goto (pc := 59) (Y := YX2_quarrelsOf) 4 dX2_quarrelsOf_59 (by decide)) ?_
        exact fun hq => go_sub [2, 3, 1, 0] rfl (ih _ _ _ hq hx)
      clear h13
      revert he12
      refine flp2 (go_icmp_eq (pc := 27) (Y := YX2_quarrelsOf) 47 dX2_quarrelsOf_27 (by decide)) ?_ ?_
      · refine im (go_iconst (pc := 47) (Y := YX2_quarrelsOf) (v := 1) dX2_quarrelsOf_47 rfl) ?_
        refine im (go_iload_n (pc := 48) (Y := YX2_quarrelsOf) 3 dX2_quarrelsOf_48 rfl rfl) ?_
        refine im (go_ishl (pc := 49) (Y := YX2_quarrelsOf) dX2_quarrelsOf_49) ?_
        refine im (go_goto (pc := 50) (Y := YX2_quarrelsOf) 54 dX2_quarrelsOf_50 (by decide)) ?_
        refine e1 (fun q0 => ?_)
        subst q0
        exact go_sub [0, 1, 3] rfl hj54
      · refine im (go_aload_n (pc := 30) (Y := YX2_quarrelsOf) 0 dX2_quarrelsOf_30 rfl rfl) ?_
        refine flp (go_gR (pc := 31) (Y := YX2_quarrelsOf) fF1011 (by decide) q1648 (Or.inl rfl) dX2_quarrelsOf_31) (fun v10 => ?_)
        refine im (go_bipush (pc := 34) (Y := YX2_quarrelsOf) (v := 80) dX2_quarrelsOf_34 rfl) ?_
        refine im (go_iconst (pc := 36) (Y := YX2_quarrelsOf) (v := 5) dX2_quarrelsOf_36 rfl) ?_
        refine im (go_iload_n (pc := 37) (Y := YX2_quarrelsOf) 3 dX2_quarrelsOf_37 rfl rfl) ?_
        refine im (go_imul (pc := 38) (Y := YX2_quarrelsOf) dX2_quarrelsOf_38) ?_
        refine im (go_iadd (pc := 39) (Y := YX2_quarrelsOf) dX2_quarrelsOf_39) ?_
        refine im (go_iconst (pc := 40) (Y := YX2_quarrelsOf) (v := 1) dX2_quarrelsOf_40 rfl) ?_
        refine im (go_iadd (pc := 41) (Y := YX2_quarrelsOf) dX2_quarrelsOf_41) ?_
        refine flp (go_lI1 (pc := 42) (Y := YX2_quarrelsOf) dX2_quarrelsOf_42) (fun v11 => ?_)
        refine im (go_iload_n (pc := 43) (Y := YX2_quarrelsOf) 1 dX2_quarrelsOf_43 rfl rfl) ?_
        refine flp2 (go_icmp_ne (pc := 44) (Y := YX2_quarrelsOf) 53 dX2_quarrelsOf_44 (by decide)) ?_ ?_
        · refine im (go_iconst (pc := 47) (Y := YX2_quarrelsOf) (v := 1) dX2_quarrelsOf_47 rfl) ?_
          refine im (go_iload_n (pc := 48) (Y := YX2_quarrelsOf) 3 dX2_quarrelsOf_48 rfl rfl) ?_
          refine im (go_ishl (pc := 49) (Y := YX2_quarrelsOf) dX2_quarrelsOf_49) ?_
          refine im (go_goto (pc := 50) (Y := YX2_quarrelsOf) 54 dX2_quarrelsOf_50 (by decide)) ?_
          refine e1 (fun q0 => ?_)
          subst q0
          exact go_sub [0, 1, 3] rfl hj54
        · refine im (go_iconst (pc := 53) (Y := YX2_quarrelsOf) (v := 0) dX2_quarrelsOf_53 rfl) ?_
          refine e1 (fun q0 => ?_)
          subst q0
          exact go_sub [0, 1, 3] rfl hj54
theorem mX2_quarrelsOf {G : gG} (s0 : St) {this : Nat} {p0 : Int32} {vE : Int32} (h : sX2_quarrelsOf s0 this p0 = some vE) : Mt G YX2_quarrelsOf yX2_quarrelsOf [rV (some this), iV p0] s0 (some (iV vE)) s0 := by
  refine go_start (ls0 := [(0, rV (some this)), (1, iV p0)]) (by decide +kernel) rfl (fun h => by cases h) (Nat.le_of_ble_eq_true rfl) rfl ?_
  revert h
  unfold sX2_quarrelsOf
  refine im (go_iconst (pc := 0) (Y := YX2_quarrelsOf) (v := 0) dX2_quarrelsOf_0 rfl) ?_
  refine im (go_istore_n (pc := 1) (Y := YX2_quarrelsOf) (ls2 := [(2, iV 0), (0, rV (some this)), (1, iV p0)]) dX2_quarrelsOf_1 rfl (Nat.le_of_ble_eq_true rfl) rfl) ?_
  refine im (go_iconst (pc := 2) (Y := YX2_quarrelsOf) (v := 0) dX2_quarrelsOf_2 rfl) ?_
  refine im (go_istore_n (pc := 3) (Y := YX2_quarrelsOf) (ls2 := [(3, iV 0), (2, iV 0), (0, rV (some this)), (1, iV p0)]) dX2_quarrelsOf_3 rfl (Nat.le_of_ble_eq_true rfl) rfl) ?_
  refine bpg (fun v14 he15 h16 => ?_)
  refine go_sub [2, 3, 1, 0] rfl (sX2_quarrelsOf_L4_go s0 this p0 FU _ _ _ he15 ?_)
  clear he15
  revert h16
  refine im (go_iload_n (pc := 62) (Y := YX2_quarrelsOf) 0 dX2_quarrelsOf_62 rfl rfl) ?_
  refine e1 (fun q0 => ?_)
  subst q0
  exact go_iret (pc := 63) (Y := YX2_quarrelsOf) rfl dX2_quarrelsOf_63
abbrev YX2_person : mY := (RX2, cX2_person, 4, (Option.some .int), 2, 43, false)
theorem YOK_X2_person : YOK yX2_person 2 := ⟨⟨by decide +kernel, by decide +kernel⟩, by decide +kernel⟩
theorem mX2_person {G : gG} (s0 : St) {this : Nat} {p0 : Int32} {p1 : Int32} {sE : St} {vE : Int32} (h : sX2_person s0 this p0 p1 = some (sE, vE)) : Mt G YX2_person yX2_person [rV (some this), iV p0, iV p1] s0 (some (iV vE)) sE := by
  refine go_start (ls0 := [(0, rV (some this)), (1, iV p0), (2, iV p1)]) (by decide +kernel) rfl (fun h => by cases h) (Nat.le_of_ble_eq_true rfl) rfl ?_
  revert h
  unfold sX2_person
  refine im (go_aload_n (pc := 0) (Y := YX2_person) 0 dX2_person_0 rfl rfl) ?_
  refine kdg (fun k1 => ?_)
  refine bpg (fun s2 he3 => ?_)
  refine im (go_callV (pc := 1) (Y := YX2_person) (Yc := YX2_good) (y := yX2_good) (n := 0) (c0 := 2) (q := (RX2, TX2, 37)) this [] [] rfl rfl k1 (mX2_good s0 he3) YOK_X2_good rfl q1760 q133 q1759 qs66 q1757 (Nat.le_of_ble_eq_true rfl) (Nat.le_of_ble_eq_true rfl) (Nat.le_of_ble_eq_true rfl) dX2_person_1 (st2 := []) rfl) ?_
  clear he3
  refine im (go_aload_n (pc := 4) (Y := YX2_person) 0 dX2_person_4 rfl rfl) ?_
  refine im (go_iload_n (pc := 5) (Y := YX2_person) 1 dX2_person_5 rfl rfl) ?_
  refine kdg (fun k4 => ?_)
  refine bpg (fun v5 he6 => ?_)
  refine im (go_callV (pc := 6) (Y := YX2_person) (Yc := YX2_isPerson) (y := yX2_isPerson) (n := 1) (c0 := 2) (q := (RX2, TX2, 37)) this [iV p0] [] rfl rfl k4 (mX2_isPerson s2 he6) YOK_X2_isPerson rfl q1942 q133 q1941 qs96 q1939 (Nat.le_of_ble_eq_true rfl) (Nat.le_of_ble_eq_true rfl) (Nat.le_of_ble_eq_true rfl) dX2_person_6 (st2 := [iV v5]) rfl) ?_
  clear he6
  refine flp2 (go_if_eq (pc := 9) (Y := YX2_person) 21 dX2_person_9 (by decide)) ?_ ?_
  · refine im (go_aload_n (pc := 21) (Y := YX2_person) 0 dX2_person_21 rfl rfl) ?_
    refine im (go_iconst (pc := 22) (Y := YX2_person) (v := 1) dX2_person_22 rfl) ?_
    refine kdg (fun k7 => ?_)
    refine bdg (fun s8 v9 he10 => ?_)
    refine im (go_callV (pc := 23) (Y := YX2_person) (Yc := YX2_no) (y := yX2_no) (n := 1) (c0 := 2) (q := (RX2, TX2, 37)) this [iV 1] [] rfl rfl k7 (mX2_no s2 he10) YOK_X2_no rfl q1767 q133 q1766 qs67 q1764 (Nat.le_of_ble_eq_true rfl) (Nat.le_of_ble_eq_true rfl) (Nat.le_of_ble_eq_true rfl) dX2_person_23 (st2 := [iV v9]) rfl) ?_
    clear he10
    refine e2 (fun q0 q1 => ?_)
    subst q0
    subst q1
    exact go_iret (pc := 26) (Y := YX2_person) rfl dX2_person_26
  · refine im (go_iload_n (pc := 12) (Y := YX2_person) 2 dX2_person_12 rfl rfl) ?_
    refine im (go_iconst (pc := 13) (Y := YX2_person) (v := 0) dX2_person_13 rfl) ?_
    refine im (go_iconst (pc := 14) (Y := YX2_person) (v := 5) dX2_person_14 rfl) ?_
    refine bpg (fun v11 he12 => ?_)
    refine im (go_callS (pc := 15) (Y := YX2_person) (Yc := YX2_in) (y := yX2_in) (n := 3) [iV p1, iV 0, iV 5] [] rfl (mX2_in s2 he12) YOK_X2_in rfl q1763 q133 q1762 q1761 (Nat.le_of_ble_eq_true rfl) (Nat.le_of_ble_eq_true rfl) (Nat.le_of_ble_eq_true rfl) dX2_person_15 (st2 := [iV v11]) rfl) ?_
    clear he12
    refine flp2 (go_if_ne (pc := 18) (Y := YX2_person) 27 dX2_person_18 (by decide)) ?_ ?_
    · refine im (go_aload_n (pc := 21) (Y := YX2_person) 0 dX2_person_21 rfl rfl) ?_
      refine im (go_iconst (pc := 22) (Y := YX2_person) (v := 1) dX2_person_22 rfl) ?_
      refine kdg (fun k13 => ?_)
      refine bdg (fun s14 v15 he16 => ?_)
      refine im (go_callV (pc := 23) (Y := YX2_person) (Yc := YX2_no) (y := yX2_no) (n := 1) (c0 := 2) (q := (RX2, TX2, 37)) this [iV 1] [] rfl rfl k13 (mX2_no s2 he16) YOK_X2_no rfl q1767 q133 q1766 qs67 q1764 (Nat.le_of_ble_eq_true rfl) (Nat.le_of_ble_eq_true rfl) (Nat.le_of_ble_eq_true rfl) dX2_person_23 (st2 := [iV v15]) rfl) ?_
      clear he16
      refine e2 (fun q0 q1 => ?_)
      subst q0
      subst q1
      exact go_iret (pc := 26) (Y := YX2_person) rfl dX2_person_26
    · refine im (go_bipush (pc := 27) (Y := YX2_person) (v := 26) dX2_person_27 rfl) ?_
      refine im (go_iconst (pc := 29) (Y := YX2_person) (v := 4) dX2_person_29 rfl) ?_
      refine im (go_iload_n (pc := 30) (Y := YX2_person) 1 dX2_person_30 rfl rfl) ?_
      refine im (go_imul (pc := 31) (Y := YX2_person) dX2_person_31) ?_
      refine im (go_iadd (pc := 32) (Y := YX2_person) dX2_person_32) ?_
      refine im (go_istore_n (pc := 33) (Y := YX2_person) (ls2 := [(3, iV (26 + (4 * p0))), (0, rV (some this)), (1, iV p0), (2, iV p1)]) dX2_person_33 rfl (Nat.le_of_ble_eq_true rfl) rfl) ?_
      refine im (go_iload_n (pc := 34) (Y := YX2_person) 3 dX2_person_34 rfl rfl) ?_
      refine ifg (fun c19 => ?_) (fun n20 => ?_)
      · refine im (go_tIn (pc := 35) (Y := YX2_person) 68 dX2_person_35 (by rw [c19]; decide) (by rw [c19]; decide) (off := 33) (by rw [c19]; rfl) (by decide)) ?_
        clear c19
        refine im (go_aload_n (pc := 68) (Y := YX2_person) 1 dX2_person_68 rfl rfl) ?_
        refine flp (go_gR (pc := 69) (Y := YX2_person) fF1011 (by decide) q1648 (Or.inl rfl) dX2_person_69) (fun v17 => ?_)
        refine im (go_iload_n (pc := 72) (Y := YX2_person) 0 dX2_person_72 rfl rfl) ?_
        refine flp (go_lI1 (pc := 73) (Y := YX2_person) dX2_person_73) (fun v18 => ?_)
        refine e2 (fun q0 q1 => ?_)
        subst q0
        subst q1
        exact go_iret (pc := 74) (Y := YX2_person) rfl dX2_person_74
      refine ifg (fun c23 => ?_) (fun n24 => ?_)
      · refine im (go_tIn 75 dX2_person_35 (by rw [c23]; decide) (by rw [c23]; decide) (off := 40) (by rw [c23]; rfl) (by decide)) ?_
        clear c23
        refine im (go_aload_n (pc := 75) (Y := YX2_person) 1 dX2_person_75 rfl rfl) ?_
        refine flp (go_gR (pc := 76) (Y := YX2_person) fF1011 (by decide) q1648 (Or.inl rfl) dX2_person_76) (fun v21 => ?_)
        refine im (go_iload_n (pc := 79) (Y := YX2_person) 0 dX2_person_79 rfl rfl) ?_
        refine im (go_iconst (pc := 80) (Y := YX2_person) (v := 2) dX2_person_80 rfl) ?_
        refine im (go_iadd (pc := 81) (Y := YX2_person) dX2_person_81) ?_
        refine flp (go_lI1 (pc := 82) (Y := YX2_person) dX2_person_82) (fun v22 => ?_)
        refine e2 (fun q0 q1 => ?_)
        subst q0
        subst q1
        exact go_iret (pc := 83) (Y := YX2_person) rfl dX2_person_83
      refine ifg (fun c29 => ?_) (fun n30 => ?_)
      · refine im (go_tIn 84 dX2_person_35 (by rw [c29]; decide) (by rw [c29]; decide) (off := 49) (by rw [c29]; rfl) (by decide)) ?_
        clear c29
        refine im (go_aload_n (pc := 84) (Y := YX2_person) 1 dX2_person_84 rfl rfl) ?_
        refine flp (go_gR (pc := 85) (Y := YX2_person) fF1011 (by decide) q1648 (Or.inl rfl) dX2_person_85) (fun v25 => ?_)
        refine im (go_iload_n (pc := 88) (Y := YX2_person) 0 dX2_person_88 rfl rfl) ?_
        refine flp (go_lI1 (pc := 89) (Y := YX2_person) dX2_person_89) (fun v26 => ?_)
        refine bpg (fun v27 he28 => ?_)
        refine im (go_callS (pc := 90) (Y := YX2_person) (Yc := YX2_eyesOfKind) (y := yX2_eyesOfKind) (n := 1) [iV v26] [] rfl (mX2_eyesOfKind s2 he28) YOK_X2_eyesOfKind rfl q1945 q133 q1944 q1943 (Nat.le_of_ble_eq_true rfl) (Nat.le_of_ble_eq_true rfl) (Nat.le_of_ble_eq_true rfl) dX2_person_90 (st2 := [iV v27]) rfl) ?_
        clear he28
        refine e2 (fun q0 q1 => ?_)
        subst q0
        subst q1
        exact go_iret (pc := 93) (Y := YX2_person) rfl dX2_person_93
      refine ifg (fun c35 => ?_) (fun n36 => ?_)
      · refine im (go_tIn 94 dX2_person_35 (by rw [c35]; decide) (by rw [c35]; decide) (off := 59) (by rw [c35]; rfl) (by decide)) ?_
        clear c35
        refine im (go_aload_n (pc := 94) (Y := YX2_person) 1 dX2_person_94 rfl rfl) ?_
        refine flp (go_gR (pc := 95) (Y := YX2_person) fF1011 (by decide) q1648 (Or.inl rfl) dX2_person_95) (fun v31 => ?_)
        refine im (go_iload_n (pc := 98) (Y := YX2_person) 0 dX2_person_98 rfl rfl) ?_
        refine im (go_iconst (pc := 99) (Y := YX2_person) (v := 3) dX2_person_99 rfl) ?_
        refine im (go_iadd (pc := 100) (Y := YX2_person) dX2_person_100) ?_
        refine flp (go_lI1 (pc := 101) (Y := YX2_person) dX2_person_101) (fun v32 => ?_)
        refine flp2 (go_if_ne (pc := 102) (Y := YX2_person) 110 dX2_person_102 (by decide)) ?_ ?_
        · refine im (go_bipush (pc := 105) (Y := YX2_person) (v := -2) dX2_person_105 rfl) ?_
          refine im (go_goto (pc := 107) (Y := YX2_person) 120 dX2_person_107 (by decide)) ?_
          refine e2 (fun q0 q1 => ?_)
          subst q0
          subst q1
          exact go_iret (pc := 120) (Y := YX2_person) rfl dX2_person_120
        · refine im (go_aload_n (pc := 110) (Y := YX2_person) 1 dX2_person_110 rfl rfl) ?_
          refine flp (go_gR (pc := 111) (Y := YX2_person) fF1011 (by decide) q1648 (Or.inl rfl) dX2_person_111) (fun v33 => ?_)
          refine im (go_iload_n (pc := 114) (Y := YX2_person) 0 dX2_person_114 rfl rfl) ?_
          refine im (go_iconst (pc := 115) (Y := YX2_person) (v := 3) dX2_person_115 rfl) ?_
          refine im (go_iadd (pc := 116) (Y := YX2_person) dX2_person_116) ?_
          refine flp (go_lI1 (pc := 117) (Y := YX2_person) dX2_person_117) (fun v34 => ?_)
          refine im (go_iconst (pc := 118) (Y := YX2_person) (v := 1) dX2_person_118 rfl) ?_
          refine im (go_isub (pc := 119) (Y := YX2_person) dX2_person_119) ?_
          refine e2 (fun q0 q1 => ?_)
          subst q0
          subst q1
          exact go_iret (pc := 120) (Y := YX2_person) rfl dX2_person_120
      refine ifg (fun c41 => ?_) (fun n42 => ?_)
      · refine im (go_tIn 121 dX2_person_35 (by rw [c41]; decide) (by rw [c41]; decide) (off := 86) (by rw [c41]; rfl) (by decide)) ?_
        clear c41
        refine im (go_aload_n (pc := 121) (Y := YX2_person) 1 dX2_person_121 rfl rfl) ?_
        refine flp (go_gR (pc := 122) (Y := YX2_person) fF1013 (by decide) q1650 (Or.inl rfl) dX2_person_122) (fun v37 => ?_)
        refine im (go_iload_n (pc := 125) (Y := YX2_person) 2 dX2_person_125 rfl rfl) ?_
        refine flp (go_lI1 (pc := 126) (Y := YX2_person) dX2_person_126) (fun v38 => ?_)
        refine flp2 (go_if_ne (pc := 127) (Y := YX2_person) 135 dX2_person_127 (by decide)) ?_ ?_
        · refine im (go_bipush (pc := 130) (Y := YX2_person) (v := -2) dX2_person_130 rfl) ?_
          refine im (go_goto (pc := 132) (Y := YX2_person) 143 dX2_person_132 (by decide)) ?_
          refine e2 (fun q0 q1 => ?_)
          subst q0
          subst q1
          exact go_iret (pc := 143) (Y := YX2_person) rfl dX2_person_143
        · refine im (go_aload_n (pc := 135) (Y := YX2_person) 1 dX2_person_135 rfl rfl) ?_
          refine flp (go_gR (pc := 136) (Y := YX2_person) fF1013 (by decide) q1650 (Or.inl rfl) dX2_person_136) (fun v39 => ?_)
          refine im (go_iload_n (pc := 139) (Y := YX2_person) 2 dX2_person_139 rfl rfl) ?_
          refine flp (go_lI1 (pc := 140) (Y := YX2_person) dX2_person_140) (fun v40 => ?_)
          refine im (go_iconst (pc := 141) (Y := YX2_person) (v := 1) dX2_person_141 rfl) ?_
          refine im (go_isub (pc := 142) (Y := YX2_person) dX2_person_142) ?_
          refine e2 (fun q0 q1 => ?_)
          subst q0
          subst q1
          exact go_iret (pc := 143) (Y := YX2_person) rfl dX2_person_143
      have ht : ∀ i : Nat, i < 5 → ¬ p1 = Int32.ofInt (0 + i) := by
        intro i hi
        rcases (show i = 0 ∨ i = 1 ∨ i = 2 ∨ i = 3 ∨ i = 4 by omega) with rfl | rfl | rfl | rfl | rfl
        · exact n20
        · exact n24
        · exact n30
        · exact n36
        · exact n42
      refine im (go_tOut 144 5 dX2_person_35 (by decide) ht (by decide)) ?_
      clear ht
      refine im (go_aload_n (pc := 144) (Y := YX2_person) 1 dX2_person_144 rfl rfl) ?_
      refine im (go_iload_n (pc := 145) (Y := YX2_person) 2 dX2_person_145 rfl rfl) ?_
      refine kdg (fun k43 => ?_)
      refine bpg (fun v44 he45 => ?_)
      refine im (go_callV (pc := 146) (Y := YX2_person) (Yc := YX2_quarrelsOf) (y := yX2_quarrelsOf) (n := 1) (c0 := 2) (q := (RX2, TX2, 37)) this [iV p0] [] rfl rfl k43 (mX2_quarrelsOf s2 he45) YOK_X2_quarrelsOf rfl q1949 q133 q1948 qs97 q1946 (Nat.le_of_ble_eq_true rfl) (Nat.le_of_ble_eq_true rfl) (Nat.le_of_ble_eq_true rfl) dX2_person_146 (st2 := [iV v44]) rfl) ?_
      clear he45
      refine e2 (fun q0 q1 => ?_)
      subst q0
      subst q1
      exact go_iret (pc := 149) (Y := YX2_person) rfl dX2_person_149
abbrev YX2_isSight : mY := (RX2, cX2_isSight, 2, (Option.some .boolean), 1, 22, false)
theorem YOK_X2_isSight : YOK yX2_isSight 1 := ⟨⟨by decide +kernel, by decide +kernel⟩, by decide +kernel⟩
theorem mX2_isSight {G : gG} (s0 : St) {this : Nat} {p0 : Int32} {vE : Int32} (h : sX2_isSight s0 this p0 = some vE) : Mt G YX2_isSight yX2_isSight [rV (some this), iV p0] s0 (some (iV vE)) s0 := by
  refine go_start (ls0 := [(0, rV (some this)), (1, iV p0)]) (by decide +kernel) rfl (fun h => by cases h) (Nat.le_of_ble_eq_true rfl) rfl ?_
  revert h
  unfold sX2_isSight
  refine im (go_aload_n (pc := 0) (Y := YX2_isSight) 0 dX2_isSight_0 rfl rfl) ?_
  refine flp (go_gI (pc := 1) (Y := YX2_isSight) fF31 (by decide) q1647 (Or.inl rfl) dX2_isSight_1) (fun v1 => ?_)
  refine flp2 (go_if_eq (pc := 4) (Y := YX2_isSight) 27 dX2_isSight_4 (by decide)) ?_ ?_
  · refine im (go_iconst (pc := 27) (Y := YX2_isSight) (v := 0) dX2_isSight_27 rfl) ?_
    refine e1 (fun q0 => ?_)
    subst q0
    exact go_zret (pc := 28) (Y := YX2_isSight) rfl rfl dX2_isSight_28
  · refine im (go_iload_n (pc := 7) (Y := YX2_isSight) 1 dX2_isSight_7 rfl rfl) ?_
    refine im (go_iconst (pc := 8) (Y := YX2_isSight) (v := 0) dX2_isSight_8 rfl) ?_
    refine im (go_aload_n (pc := 9) (Y := YX2_isSight) 0 dX2_isSight_9 rfl rfl) ?_
    refine flp (go_gR (pc := 10) (Y := YX2_isSight) fF1011 (by decide) q1648 (Or.inl rfl) dX2_isSight_10) (fun v2 => ?_)
    refine im (go_iconst (pc := 13) (Y := YX2_isSight) (v := 2) dX2_isSight_13 rfl) ?_
    refine flp (go_lI1 (pc := 14) (Y := YX2_isSight) dX2_isSight_14) (fun v3 => ?_)
    refine im (go_iconst (pc := 15) (Y := YX2_isSight) (v := 1) dX2_isSight_15 rfl) ?_
    refine im (go_isub (pc := 16) (Y := YX2_isSight) dX2_isSight_16) ?_
    refine bpg (fun v4 he5 => ?_)
    refine im (go_callS (pc := 17) (Y := YX2_isSight) (Yc := YX2_in) (y := yX2_in) (n := 3) [iV p0, iV 0, iV (v3 - 1)] [] rfl (mX2_in s0 he5) YOK_X2_in rfl q1763 q133 q1762 q1761 (Nat.le_of_ble_eq_true rfl) (Nat.le_of_ble_eq_true rfl) (Nat.le_of_ble_eq_true rfl) dX2_isSight_17 (st2 := [iV v4]) rfl) ?_
    clear he5
    refine flp2 (go_if_eq (pc := 20) (Y := YX2_isSight) 27 dX2_isSight_20 (by decide)) ?_ ?_
    · refine im (go_iconst (pc := 27) (Y := YX2_isSight) (v := 0) dX2_isSight_27 rfl) ?_
      refine e1 (fun q0 => ?_)
      subst q0
      exact go_zret (pc := 28) (Y := YX2_isSight) rfl rfl dX2_isSight_28
    · refine im (go_iconst (pc := 23) (Y := YX2_isSight) (v := 1) dX2_isSight_23 rfl) ?_
      refine im (go_goto (pc := 24) (Y := YX2_isSight) 28 dX2_isSight_24 (by decide)) ?_
      refine e1 (fun q0 => ?_)
      subst q0
      exact go_zret (pc := 28) (Y := YX2_isSight) rfl rfl dX2_isSight_28
abbrev YX2_sight : mY := (RX2, cX2_sight, 3, (Option.some .int), 2, 43, false)
theorem YOK_X2_sight : YOK yX2_sight 2 := ⟨⟨by decide +kernel, by decide +kernel⟩, by decide +kernel⟩
theorem mX2_sight {G : gG} (s0 : St) {this : Nat} {p0 : Int32} {p1 : Int32} {sE : St} {vE : Int32} (h : sX2_sight s0 this p0 p1 = some (sE, vE)) : Mt G YX2_sight yX2_sight [rV (some this), iV p0, iV p1] s0 (some (iV vE)) sE := by
  refine go_start (ls0 := [(0, rV (some this)), (1, iV p0), (2, iV p1)]) (by decide +kernel) rfl (fun h => by cases h) (Nat.le_of_ble_eq_true rfl) rfl ?_
  revert h
  unfold sX2_sight
  refine im (go_aload_n (pc := 0) (Y := YX2_sight) 0 dX2_sight_0 rfl rfl) ?_
  refine kdg (fun k1 => ?_)
  refine bpg (fun s2 he3 => ?_)
  refine im (go_callV (pc := 1) (Y := YX2_sight) (Yc := YX2_good) (y := yX2_good) (n := 0) (c0 := 2) (q := (RX2, TX2, 37)) this [] [] rfl rfl k1 (mX2_good s0 he3) YOK_X2_good rfl q1760 q133 q1759 qs66 q1757 (Nat.le_of_ble_eq_true rfl) (Nat.le_of_ble_eq_true rfl) (Nat.le_of_ble_eq_true rfl) dX2_sight_1 (st2 := []) rfl) ?_
  clear he3
  refine im (go_aload_n (pc := 4) (Y := YX2_sight) 0 dX2_sight_4 rfl rfl) ?_
  refine im (go_iload_n (pc := 5) (Y := YX2_sight) 1 dX2_sight_5 rfl rfl) ?_
  refine kdg (fun k4 => ?_)
  refine bpg (fun v5 he6 => ?_)
  refine im (go_callV (pc := 6) (Y := YX2_sight) (Yc := YX2_isSight) (y := yX2_isSight) (n := 1) (c0 := 2) (q := (RX2, TX2, 37)) this [iV p0] [] rfl rfl k4 (mX2_isSight s2 he6) YOK_X2_isSight rfl q1957 q133 q1956 qs98 q1954 (Nat.le_of_ble_eq_true rfl) (Nat.le_of_ble_eq_true rfl) (Nat.le_of_ble_eq_true rfl) dX2_sight_6 (st2 := [iV v5]) rfl) ?_
  clear he6
  refine flp2 (go_if_eq (pc := 9) (Y := YX2_sight) 21 dX2_sight_9 (by decide)) ?_ ?_
  · refine im (go_aload_n (pc := 21) (Y := YX2_sight) 0 dX2_sight_21 rfl rfl) ?_
    refine im (go_iconst (pc := 22) (Y := YX2_sight) (v := 1) dX2_sight_22 rfl) ?_
    refine kdg (fun k7 => ?_)
    refine bdg (fun s8 v9 he10 => ?_)
    refine im (go_callV (pc := 23) (Y := YX2_sight) (Yc := YX2_no) (y := yX2_no) (n := 1) (c0 := 2) (q := (RX2, TX2, 37)) this [iV 1] [] rfl rfl k7 (mX2_no s2 he10) YOK_X2_no rfl q1767 q133 q1766 qs67 q1764 (Nat.le_of_ble_eq_true rfl) (Nat.le_of_ble_eq_true rfl) (Nat.le_of_ble_eq_true rfl) dX2_sight_23 (st2 := [iV v9]) rfl) ?_
    clear he10
    refine e2 (fun q0 q1 => ?_)
    subst q0
    subst q1
    exact go_iret (pc := 26) (Y := YX2_sight) rfl dX2_sight_26
  · refine im (go_iload_n (pc := 12) (Y := YX2_sight) 2 dX2_sight_12 rfl rfl) ?_
    refine im (go_iconst (pc := 13) (Y := YX2_sight) (v := 0) dX2_sight_13 rfl) ?_
    refine im (go_iconst (pc := 14) (Y := YX2_sight) (v := 2) dX2_sight_14 rfl) ?_
    refine bpg (fun v11 he12 => ?_)
    refine im (go_callS (pc := 15) (Y := YX2_sight) (Yc := YX2_in) (y := yX2_in) (n := 3) [iV p1, iV 0, iV 2] [] rfl (mX2_in s2 he12) YOK_X2_in rfl q1763 q133 q1762 q1761 (Nat.le_of_ble_eq_true rfl) (Nat.le_of_ble_eq_true rfl) (Nat.le_of_ble_eq_true rfl) dX2_sight_15 (st2 := [iV v11]) rfl) ?_
    clear he12
    refine flp2 (go_if_ne (pc := 18) (Y := YX2_sight) 27 dX2_sight_18 (by decide)) ?_ ?_
    · refine im (go_aload_n (pc := 21) (Y := YX2_sight) 0 dX2_sight_21 rfl rfl) ?_
      refine im (go_iconst (pc := 22) (Y := YX2_sight) (v := 1) dX2_sight_22 rfl) ?_
      refine kdg (fun k13 => ?_)
      refine bdg (fun s14 v15 he16 => ?_)
      refine im (go_callV (pc := 23) (Y := YX2_sight) (Yc := YX2_no) (y := yX2_no) (n := 1) (c0 := 2) (q := (RX2, TX2, 37)) this [iV 1] [] rfl rfl k13 (mX2_no s2 he16) YOK_X2_no rfl q1767 q133 q1766 qs67 q1764 (Nat.le_of_ble_eq_true rfl) (Nat.le_of_ble_eq_true rfl) (Nat.le_of_ble_eq_true rfl) dX2_sight_23 (st2 := [iV v15]) rfl) ?_
      clear he16
      refine e2 (fun q0 q1 => ?_)
      subst q0
      subst q1
      exact go_iret (pc := 26) (Y := YX2_sight) rfl dX2_sight_26
    · refine im (go_iload_n (pc := 27) (Y := YX2_sight) 2 dX2_sight_27 rfl rfl) ?_
      refine im (go_iconst (pc := 28) (Y := YX2_sight) (v := 2) dX2_sight_28 rfl) ?_
      refine flp2 (go_icmp_ge (pc := 29) (Y := YX2_sight) 48 dX2_sight_29 (by decide)) ?_ ?_
      · refine im (go_aload_n (pc := 48) (Y := YX2_sight) 0 dX2_sight_48 rfl rfl) ?_
        refine flp (go_gR (pc := 49) (Y := YX2_sight) fF1013 (by decide) q1650 (Or.inl rfl) dX2_sight_49) (fun v17 => ?_)
        refine im (go_bipush (pc := 52) (Y := YX2_sight) (v := 6) dX2_sight_52 rfl) ?_
        refine flp (go_lI1 (pc := 54) (Y := YX2_sight) dX2_sight_54) (fun v18 => ?_)
        refine im (go_iload_n (pc := 55) (Y := YX2_sight) 1 dX2_sight_55 rfl rfl) ?_
        refine im (go_ishr (pc := 56) (Y := YX2_sight) dX2_sight_56) ?_
        refine im (go_iconst (pc := 57) (Y := YX2_sight) (v := 1) dX2_sight_57 rfl) ?_
        refine im (go_iand (pc := 58) (Y := YX2_sight) dX2_sight_58) ?_
        refine e2 (fun q0 q1 => ?_)
        subst q0
        subst q1
        exact go_iret (pc := 59) (Y := YX2_sight) rfl dX2_sight_59
      · refine im (go_aload_n (pc := 32) (Y := YX2_sight) 0 dX2_sight_32 rfl rfl) ?_
        refine flp (go_gR (pc := 33) (Y := YX2_sight) fF1011 (by decide) q1648 (Or.inl rfl) dX2_sight_33) (fun v19 => ?_)
        refine im (go_bipush (pc := 36) (Y := YX2_sight) (v := 10) dX2_sight_36 rfl) ?_
        refine im (go_iconst (pc := 38) (Y := YX2_sight) (v := 2) dX2_sight_38 rfl) ?_
        refine im (go_iload_n (pc := 39) (Y := YX2_sight) 1 dX2_sight_39 rfl rfl) ?_
        refine im (go_imul (pc := 40) (Y := YX2_sight) dX2_sight_40) ?_
        refine im (go_iadd (pc := 41) (Y := YX2_sight) dX2_sight_41) ?_
        refine im (go_iload_n (pc := 42) (Y := YX2_sight) 2 dX2_sight_42 rfl rfl) ?_
        refine im (go_iadd (pc := 43) (Y := YX2_sight) dX2_sight_43) ?_
        refine flp (go_lI1 (pc := 44) (Y := YX2_sight) dX2_sight_44) (fun v20 => ?_)
        refine im (go_goto (pc := 45) (Y := YX2_sight) 59 dX2_sight_45 (by decide)) ?_
        refine e2 (fun q0 q1 => ?_)
        subst q0
        subst q1
        exact go_iret (pc := 59) (Y := YX2_sight) rfl dX2_sight_59
abbrev YX2_isQuarrel : mY := (RX2, cX2_isQuarrel, 2, (Option.some .boolean), 1, 22, false)
theorem YOK_X2_isQuarrel : YOK yX2_isQuarrel 1 := ⟨⟨by decide +kernel, by decide +kernel⟩, by decide +kernel⟩
theorem mX2_isQuarrel {G : gG} (s0 : St) {this : Nat} {p0 : Int32} {vE : Int32} (h : sX2_isQuarrel s0 this p0 = some vE) : Mt G YX2_isQuarrel yX2_isQuarrel [rV (some this), iV p0] s0 (some (iV vE)) s0 := by
  refine go_start (ls0 := [(0, rV (some this)), (1, iV p0)]) (by decide +kernel) rfl (fun h => by cases h) (Nat.le_of_ble_eq_true rfl) rfl ?_
  revert h
  unfold sX2_isQuarrel
  refine im (go_aload_n (pc := 0) (Y := YX2_isQuarrel) 0 dX2_isQuarrel_0 rfl rfl) ?_
  refine flp (go_gI (pc := 1) (Y := YX2_isQuarrel) fF31 (by decide) q1647 (Or.inl rfl) dX2_isQuarrel_1) (fun v1 => ?_)
  refine flp2 (go_if_eq (pc := 4) (Y := YX2_isQuarrel) 27 dX2_isQuarrel_4 (by decide)) ?_ ?_
  · refine im (go_iconst (pc := 27) (Y := YX2_isQuarrel) (v := 0) dX2_isQuarrel_27 rfl) ?_
    refine e1 (fun q0 => ?_)
    subst q0
    exact go_zret (pc := 28) (Y := YX2_isQuarrel) rfl rfl dX2_isQuarrel_28
  · refine im (go_iload_n (pc := 7) (Y := YX2_isQuarrel) 1 dX2_isQuarrel_7 rfl rfl) ?_
    refine im (go_iconst (pc := 8) (Y := YX2_isQuarrel) (v := 0) dX2_isQuarrel_8 rfl) ?_
    refine im (go_aload_n (pc := 9) (Y := YX2_isQuarrel) 0 dX2_isQuarrel_9 rfl rfl) ?_
    refine flp (go_gR (pc := 10) (Y := YX2_isQuarrel) fF1011 (by decide) q1648 (Or.inl rfl) dX2_isQuarrel_10) (fun v2 => ?_)
    refine im (go_iconst (pc := 13) (Y := YX2_isQuarrel) (v := 5) dX2_isQuarrel_13 rfl) ?_
    refine flp (go_lI1 (pc := 14) (Y := YX2_isQuarrel) dX2_isQuarrel_14) (fun v3 => ?_)
    refine im (go_iconst (pc := 15) (Y := YX2_isQuarrel) (v := 1) dX2_isQuarrel_15 rfl) ?_
    refine im (go_isub (pc := 16) (Y := YX2_isQuarrel) dX2_isQuarrel_16) ?_
    refine bpg (fun v4 he5 => ?_)
    refine im (go_callS (pc := 17) (Y := YX2_isQuarrel) (Yc := YX2_in) (y := yX2_in) (n := 3) [iV p0, iV 0, iV (v3 - 1)] [] rfl (mX2_in s0 he5) YOK_X2_in rfl q1763 q133 q1762 q1761 (Nat.le_of_ble_eq_true rfl) (Nat.le_of_ble_eq_true rfl) (Nat.le_of_ble_eq_true rfl) dX2_isQuarrel_17 (st2 := [iV v4]) rfl) ?_
    clear he5
    refine flp2 (go_if_eq (pc := 20) (Y := YX2_isQuarrel) 27 dX2_isQuarrel_20 (by decide)) ?_ ?_
    · refine im (go_iconst (pc := 27) (Y := YX2_isQuarrel) (v := 0) dX2_isQuarrel_27 rfl) ?_
      refine e1 (fun q0 => ?_)
      subst q0
      exact go_zret (pc := 28) (Y := YX2_isQuarrel) rfl rfl dX2_isQuarrel_28
    · refine im (go_iconst (pc := 23) (Y := YX2_isQuarrel) (v := 1) dX2_isQuarrel_23 rfl) ?_
      refine im (go_goto (pc := 24) (Y := YX2_isQuarrel) 28 dX2_isQuarrel_24 (by decide)) ?_
      refine e1 (fun q0 => ?_)
      subst q0
      exact go_zret (pc := 28) (Y := YX2_isQuarrel) rfl rfl dX2_isQuarrel_28
abbrev YX2_quarrel : mY := (RX2, cX2_quarrel, 3, (Option.some .int), 2, 43, false)
theorem YOK_X2_quarrel : YOK yX2_quarrel 2 := ⟨⟨by decide +kernel, by decide +kernel⟩, by decide +kernel⟩
theorem mX2_quarrel {G : gG} (s0 : St) {this : Nat} {p0 : Int32} {p1 : Int32} {sE : St} {vE : Int32} (h : sX2_quarrel s0 this p0 p1 = some (sE, vE)) : Mt G YX2_quarrel yX2_quarrel [rV (some this), iV p0, iV p1] s0 (some (iV vE)) sE := by
  refine go_start (ls0 := [(0, rV (some this)), (1, iV p0), (2, iV p1)]) (by decide +kernel) rfl (fun h => by cases h) (Nat.le_of_ble_eq_true rfl) rfl ?_
  revert h
  unfold sX2_quarrel
  refine im (go_aload_n (pc := 0) (Y := YX2_quarrel) 0 dX2_quarrel_0 rfl rfl) ?_
  refine kdg (fun k1 => ?_)
  refine bpg (fun s2 he3 => ?_)
  refine im (go_callV (pc := 1) (Y := YX2_quarrel) (Yc := YX2_good) (y := yX2_good) (n := 0) (c0 := 2) (q := (RX2, TX2, 37)) this [] [] rfl rfl k1 (mX2_good s0 he3) YOK_X2_good rfl q1760 q133 q1759 qs66 q1757 (Nat.le_of_ble_eq_true rfl) (Nat.le_of_ble_eq_true rfl) (Nat.le_of_ble_eq_true rfl) dX2_quarrel_1 (st2 := []) rfl) ?_
  clear he3
  refine im (go_aload_n (pc := 4) (Y := YX2_quarrel) 0 dX2_quarrel_4 rfl rfl) ?_
  refine im (go_iload_n (pc := 5) (Y := YX2_quarrel) 1 dX2_quarrel_5 rfl rfl) ?_
  refine kdg (fun k4 => ?_)
  refine bpg (fun v5 he6 => ?_)
  refine im (go_callV (pc := 6) (Y := YX2_quarrel) (Yc := YX2_isQuarrel) (y := yX2_isQuarrel) (n := 1) (c0 := 2) (q := (RX2, TX2, 37)) this [iV p0] [] rfl rfl k4 (mX2_isQuarrel s2 he6) YOK_X2_isQuarrel rfl q1965 q133 q1964 qs99 q1962 (Nat.le_of_ble_eq_true rfl) (Nat.le_of_ble_eq_true rfl) (Nat.le_of_ble_eq_true rfl) dX2_quarrel_6 (st2 := [iV v5]) rfl) ?_
  clear he6
  refine flp2 (go_if_eq (pc := 9) (Y := YX2_quarrel) 37 dX2_quarrel_9 (by decide)) ?_ ?_
  · refine im (go_aload_n (pc := 37) (Y := YX2_quarrel) 0 dX2_quarrel_37 rfl rfl) ?_
    refine im (go_iconst (pc := 38) (Y := YX2_quarrel) (v := 1) dX2_quarrel_38 rfl) ?_
    refine kdg (fun k7 => ?_)
    refine bdg (fun s8 v9 he10 => ?_)
    refine im (go_callV (pc := 39) (Y := YX2_quarrel) (Yc := YX2_no) (y := yX2_no) (n := 1) (c0 := 2) (q := (RX2, TX2, 37)) this [iV 1] [] rfl rfl k7 (mX2_no s2 he10) YOK_X2_no rfl q1767 q133 q1766 qs67 q1764 (Nat.le_of_ble_eq_true rfl) (Nat.le_of_ble_eq_true rfl) (Nat.le_of_ble_eq_true rfl) dX2_quarrel_39 (st2 := [iV v9]) rfl) ?_
    clear he10
    refine e2 (fun q0 q1 => ?_)
    subst q0
    subst q1
    exact go_iret (pc := 42) (Y := YX2_quarrel) rfl dX2_quarrel_42
  · refine im (go_iload_n (pc := 12) (Y := YX2_quarrel) 2 dX2_quarrel_12 rfl rfl) ?_
    refine im (go_iconst (pc := 13) (Y := YX2_quarrel) (v := 0) dX2_quarrel_13 rfl) ?_
    refine im (go_iconst (pc := 14) (Y := YX2_quarrel) (v := 4) dX2_quarrel_14 rfl) ?_
    refine bpg (fun v11 he12 => ?_)
    refine im (go_callS (pc := 15) (Y := YX2_quarrel) (Yc := YX2_in) (y := yX2_in) (n := 3) [iV p1, iV 0, iV 4] [] rfl (mX2_in s2 he12) YOK_X2_in rfl q1763 q133 q1762 q1761 (Nat.le_of_ble_eq_true rfl) (Nat.le_of_ble_eq_true rfl) (Nat.le_of_ble_eq_true rfl) dX2_quarrel_15 (st2 := [iV v11]) rfl) ?_
    clear he12
    refine flp2 (go_if_eq (pc := 18) (Y := YX2_quarrel) 37 dX2_quarrel_18 (by decide)) ?_ ?_
    · refine im (go_aload_n (pc := 37) (Y := YX2_quarrel) 0 dX2_quarrel_37 rfl rfl) ?_
      refine im (go_iconst (pc := 38) (Y := YX2_quarrel) (v := 1) dX2_quarrel_38 rfl) ?_
      refine kdg (fun k13 => ?_)
      refine bdg (fun s14 v15 he16 => ?_)
      refine im (go_callV (pc := 39) (Y := YX2_quarrel) (Yc := YX2_no) (y := yX2_no) (n := 1) (c0 := 2) (q := (RX2, TX2, 37)) this [iV 1] [] rfl rfl k13 (mX2_no s2 he16) YOK_X2_no rfl q1767 q133 q1766 qs67 q1764 (Nat.le_of_ble_eq_true rfl) (Nat.le_of_ble_eq_true rfl) (Nat.le_of_ble_eq_true rfl) dX2_quarrel_39 (st2 := [iV v15]) rfl) ?_
      clear he16
      refine e2 (fun q0 q1 => ?_)
      subst q0
      subst q1
      exact go_iret (pc := 42) (Y := YX2_quarrel) rfl dX2_quarrel_42
    · refine im (go_aload_n (pc := 21) (Y := YX2_quarrel) 0 dX2_quarrel_21 rfl rfl) ?_
      refine flp (go_gR (pc := 22) (Y := YX2_quarrel) fF1011 (by decide) q1648 (Or.inl rfl) dX2_quarrel_22) (fun v17 => ?_)
      refine im (go_bipush (pc := 25) (Y := YX2_quarrel) (v := 80) dX2_quarrel_25 rfl) ?_
      refine im (go_iconst (pc := 27) (Y := YX2_quarrel) (v := 5) dX2_quarrel_27 rfl) ?_
      refine im (go_iload_n (pc := 28) (Y := YX2_quarrel) 1 dX2_quarrel_28 rfl rfl) ?_
      refine im (go_imul (pc := 29) (Y := YX2_quarrel) dX2_quarrel_29) ?_
      refine im (go_iadd (pc := 30) (Y := YX2_quarrel) dX2_quarrel_30) ?_
      refine im (go_iload_n (pc := 31) (Y := YX2_quarrel) 2 dX2_quarrel_31 rfl rfl) ?_
      refine im (go_iadd (pc := 32) (Y := YX2_quarrel) dX2_quarrel_32) ?_
      refine flp (go_lI1 (pc := 33) (Y := YX2_quarrel) dX2_quarrel_33) (fun v18 => ?_)
      refine im (go_goto (pc := 34) (Y := YX2_quarrel) 42 dX2_quarrel_34 (by decide)) ?_
      refine e2 (fun q0 q1 => ?_)
      subst q0
      subst q1
      exact go_iret (pc := 42) (Y := YX2_quarrel) rfl dX2_quarrel_42
abbrev YX2_isMinute : mY := (RX2, cX2_isMinute, 2, (Option.some .boolean), 1, 22, false)
theorem YOK_X2_isMinute : YOK yX2_isMinute 1 := ⟨⟨by decide +kernel, by decide +kernel⟩, by decide +kernel⟩
theorem mX2_isMinute {G : gG} (s0 : St) {this : Nat} {p0 : Int32} {vE : Int32} (h : sX2_isMinute s0 this p0 = some vE) : Mt G YX2_isMinute yX2_isMinute [rV (some this), iV p0] s0 (some (iV vE)) s0 := by
  refine go_start (ls0 := [(0, rV (some this)), (1, iV p0)]) (by decide +kernel) rfl (fun h => by cases h) (Nat.le_of_ble_eq_true rfl) rfl ?_
  revert h
  unfold sX2_isMinute
  refine im (go_iload_n (pc := 0) (Y := YX2_isMinute) 1 dX2_isMinute_0 rfl rfl) ?_
  refine im (go_iconst (pc := 1) (Y := YX2_isMinute) (v := 0) dX2_isMinute_1 rfl) ?_
  refine im (go_bipush (pc := 2) (Y := YX2_isMinute) (v := 59) dX2_isMinute_2 rfl) ?_
  refine bpg (fun v1 he2 => ?_)
  refine im (go_callS (pc := 4) (Y := YX2_isMinute) (Yc := YX2_in) (y := yX2_in) (n := 3) [iV p0, iV 0, iV 59] [] rfl (mX2_in s0 he2) YOK_X2_in rfl q1763 q133 q1762 q1761 (Nat.le_of_ble_eq_true rfl) (Nat.le_of_ble_eq_true rfl) (Nat.le_of_ble_eq_true rfl) dX2_isMinute_4 (st2 := [iV v1]) rfl) ?_
  clear he2
  refine okg (fun z3 => ?_)
  refine e1 (fun q0 => ?_)
  subst q0
  exact go_zret (pc := 7) (Y := YX2_isMinute) rfl (okZ_nar z3).1 dX2_isMinute_7
abbrev YX2_why : mY := (RX2, cX2_why, 3, (Option.some .int), 0, 0, false)
theorem YOK_X2_why : YOK yX2_why 2 := ⟨⟨by decide +kernel, by decide +kernel⟩, by decide +kernel⟩
theorem mX2_why {G : gG} (s0 : St) {this : Nat} {p0 : Int32} {p1 : Int32} {vE : Int32} (h : sX2_why s0 this p0 p1 = some vE) : Mt G YX2_why yX2_why [rV (some this), iV p0, iV p1] s0 (some (iV vE)) s0 := by
  refine go_start (ls0 := [(0, rV (some this)), (1, iV p0), (2, iV p1)]) (by decide +kernel) rfl (fun h => by cases h) (Nat.le_of_ble_eq_true rfl) rfl ?_
  revert h
  unfold sX2_why
  refine im (go_iload_n (pc := 0) (Y := YX2_why) 1 dX2_why_0 rfl rfl) ?_
  refine flp2 (go_if_ne (pc := 1) (Y := YX2_why) 8 dX2_why_1 (by decide)) ?_ ?_
  · refine im (go_iconst (pc := 4) (Y := YX2_why) (v := 1) dX2_why_4 rfl) ?_
    refine im (go_goto (pc := 5) (Y := YX2_why) 17 dX2_why_5 (by decide)) ?_
    refine e1 (fun q0 => ?_)
    subst q0
    exact go_iret (pc := 17) (Y := YX2_why) rfl dX2_why_17
  · refine im (go_iload_n (pc := 8) (Y := YX2_why) 2 dX2_why_8 rfl rfl) ?_
    refine flp2 (go_if_eq (pc := 9) (Y := YX2_why) 16 dX2_why_9 (by decide)) ?_ ?_
    · refine im (go_iconst (pc := 16) (Y := YX2_why) (v := 2) dX2_why_16 rfl) ?_
      refine e1 (fun q0 => ?_)
      subst q0
      exact go_iret (pc := 17) (Y := YX2_why) rfl dX2_why_17
    · refine im (go_iconst (pc := 12) (Y := YX2_why) (v := 0) dX2_why_12 rfl) ?_
      refine im (go_goto (pc := 13) (Y := YX2_why) 17 dX2_why_13 (by decide)) ?_
      refine e1 (fun q0 => ?_)
      subst q0
      exact go_iret (pc := 17) (Y := YX2_why) rfl dX2_why_17
abbrev YX2_asNow : mY := (RX2, cX2_asNow, 2, (Option.none : Option Jvm.ClassFile.FieldType), 1, 25, false)
theorem YOK_X2_asNow : YOK yX2_asNow 0 := ⟨⟨by decide +kernel, by decide +kernel⟩, by decide +kernel⟩
theorem sX2_asNow_L17_go {G : gG} {s0 sE : St} {rE : Option V3} (this : Nat) : ∀ (n : Nat) (s5 : St) (v6 : Int32) (s7 : St), sX2_asNow_L17 this n s5 v6 = some s7 → Go G YX2_asNow s0 sE rE 72 [] [] s7 → Go G YX2_asNow s0 sE rE 17 [(0, rV (some this)), (1, iV v6)] [] s5 := by
  intro n
  induction n with
  | zero => intro s5 v6 s7 h hx; rw [sX2_asNow_L17] at h; cases h
  | succ n ih =>
    intro s5 v6 s7 h hx
    revert h
    rw [sX2_asNow_L17]
    refine im (go_iload_n (pc := 17) (Y := YX2_asNow) 1 dX2_asNow_17 rfl rfl) ?_
    refine im (go_aload_n (pc := 18) (Y := YX2_asNow) 0 dX2_asNow_18 rfl rfl) ?_
    refine flp (go_gR (pc := 19) (Y := YX2_asNow) fF1011 (by decide) q1648 (Or.inl rfl) dX2_asNow_19) (fun v8 => ?_)
    refine im (go_iconst (pc := 22) (Y := YX2_asNow) (v := 3) dX2_asNow_22 rfl) ?_
    refine flp (go_lI1 (pc := 23) (Y := YX2_asNow) dX2_asNow_23) (fun v9 => ?_)
    refine flp2 (go_icmp_ge (pc := 24) (Y := YX2_asNow) 72 dX2_asNow_24 (by decide)) ?_ ?_
    · refine e1 (fun q0 => ?_)
      subst q0
      exact go_sub [] rfl hx
    · refine im (go_aload_n (pc := 27) (Y := YX2_asNow) 0 dX2_asNow_27 rfl rfl) ?_
      refine flp (go_gR (pc := 28) (Y := YX2_asNow) fF1017 (by decide) q1656 (Or.inl rfl) dX2_asNow_28) (fun v10 => ?_)
      refine im (go_iload_n (pc := 31) (Y := YX2_asNow) 1 dX2_asNow_31 rfl rfl) ?_
      refine im (go_aload_n (pc := 32) (Y := YX2_asNow) 0 dX2_asNow_32 rfl rfl) ?_
      refine flp (go_gR (pc := 33) (Y := YX2_asNow) fF1011 (by decide) q1648 (Or.inl rfl) dX2_asNow_33) (fun v11 => ?_)
      refine im (go_bipush (pc := 36) (Y := YX2_asNow) (v := 26) dX2_asNow_36 rfl) ?_
      refine im (go_iconst (pc := 38) (Y := YX2_asNow) (v := 4) dX2_asNow_38 rfl) ?_
      refine im (go_iload_n (pc := 39) (Y := YX2_asNow) 1 dX2_asNow_39 rfl rfl) ?_
      refine im (go_imul (pc := 40) (Y := YX2_asNow) dX2_asNow_40) ?_
      refine im (go_iadd (pc := 41) (Y := YX2_asNow) dX2_asNow_41) ?_
      refine im (go_iconst (pc := 42) (Y := YX2_asNow) (v := 2) dX2_asNow_42 rfl) ?_
      refine im (go_iadd (pc := 43) (Y := YX2_asNow) dX2_asNow_43) ?_
      refine flp (go_lI1 (pc := 44) (Y := YX2_asNow) dX2_asNow_44) (fun v12 => ?_)
      refine flp (go_tI (pc := 45) (Y := YX2_asNow) dX2_asNow_45) (fun s13 => ?_)
      refine im (go_aload_n (pc := 46) (Y := YX2_asNow) 0 dX2_asNow_46 rfl rfl) ?_
      refine flp (go_gR (pc := 47) (Y := YX2_asNow) fF1018 (by decide) q1657 (Or.inl rfl) dX2_asNow_47) (fun v14 => ?_)
      refine im (go_iload_n (pc := 50) (Y := YX2_asNow) 1 dX2_asNow_50 rfl rfl) ?_
      refine im (go_aload_n (pc := 51) (Y := YX2_asNow) 0 dX2_asNow_51 rfl rfl) ?_
      refine flp (go_gR (pc := 52) (Y := YX2_asNow) fF1011 (by decide) q1648 (Or.inl rfl) dX2_asNow_52) (fun v15 => ?_)
      refine im (go_bipush (pc := 55) (Y := YX2_asNow) (v := 26) dX2_asNow_55 rfl) ?_
      refine im (go_iconst (pc := 57) (Y := YX2_asNow) (v := 4) dX2_asNow_57 rfl) ?_
      refine im (go_iload_n (pc := 58) (Y := YX2_asNow) 1 dX2_asNow_58 rfl rfl) ?_
      refine im (go_imul (pc := 59) (Y := YX2_asNow) dX2_asNow_59) ?_
      refine im (go_iadd (pc := 60) (Y := YX2_asNow) dX2_asNow_60) ?_
      refine flp (go_lI1 (pc := 61) (Y := YX2_asNow) dX2_asNow_61) (fun v16 => ?_)
      refine bpg (fun v17 he18 => ?_)
      refine im (go_callS (pc := 62) (Y := YX2_asNow) (Yc := YX2_eyesOfKind) (y := yX2_eyesOfKind) (n := 1) [iV v16] [iV v6, rV v14] rfl (mX2_eyesOfKind s13 he18) YOK_X2_eyesOfKind rfl q1945 q133 q1944 q1943 (Nat.le_of_ble_eq_true rfl) (Nat.le_of_ble_eq_true rfl) (Nat.le_of_ble_eq_true rfl) dX2_asNow_62 (st2 := [iV v17, iV v6, rV v14]) rfl) ?_
      clear he18
      refine flp (go_tI (pc := 65) (Y := YX2_asNow) dX2_asNow_65) (fun s19 => ?_)
      refine im (go_iinc (pc := 66) (Y := YX2_asNow) 1 (v := (v6 + 1)) (ls2 := [(1, iV (v6 + 1)), (0, rV (some this))]) dX2_asNow_66 rfl rfl (Nat.le_of_ble_eq_true rfl) rfl) ?_
      refine im (go_goto (pc := 69) (Y := YX2_asNow) 17 dX2_asNow_69 (by decide)) ?_
      exact fun hq => go_sub [1, 0] rfl (ih _ _ _ hq hx)
theorem mX2_asNow {G : gG} (s0 : St) {this : Nat} {sE : St} (h : sX2_asNow s0 this = some sE) : Mt G YX2_asNow yX2_asNow [rV (some this)] s0 none sE := by
  refine go_start (ls0 := [(0, rV (some this))]) (by decide +kernel) rfl (fun h => by cases h) (Nat.le_of_ble_eq_true rfl) rfl ?_
  revert h
  unfold sX2_asNow
  refine im (go_aload_n (pc := 0) (Y := YX2_asNow) 0 dX2_asNow_0 rfl rfl) ?_
  refine flp (go_gR (pc := 1) (Y := YX2_asNow) fF1013 (by decide) q1650 (Or.inl rfl) dX2_asNow_1) (fun v1 => ?_)
  refine im (go_iconst (pc := 4) (Y := YX2_asNow) (v := 0) dX2_asNow_4 rfl) ?_
  refine im (go_aload_n (pc := 5) (Y := YX2_asNow) 0 dX2_asNow_5 rfl rfl) ?_
  refine flp (go_gR (pc := 6) (Y := YX2_asNow) fF1016 (by decide) q1655 (Or.inl rfl) dX2_asNow_6) (fun v2 => ?_)
  refine im (go_iconst (pc := 9) (Y := YX2_asNow) (v := 0) dX2_asNow_9 rfl) ?_
  refine im (go_bipush (pc := 10) (Y := YX2_asNow) (v := 8) dX2_asNow_10 rfl) ?_
  refine bpg (fun s3 he4 => ?_)
  refine im (go_callS (pc := 12) (Y := YX2_asNow) (Yc := YX2_copy) (y := yX2_copy) (n := 5) [rV v1, iV 0, rV v2, iV 0, iV 8] [] rfl (mX2_copy s0 he4) YOK_X2_copy rfl q1926 q133 q1925 q1924 (Nat.le_of_ble_eq_true rfl) (Nat.le_of_ble_eq_true rfl) (Nat.le_of_ble_eq_true rfl) dX2_asNow_12 (st2 := []) rfl) ?_
  clear he4
  refine im (go_iconst (pc := 15) (Y := YX2_asNow) (v := 0) dX2_asNow_15 rfl) ?_
  refine im (go_istore_n (pc := 16) (Y := YX2_asNow) (ls2 := [(1, iV 0), (0, rV (some this))]) dX2_asNow_16 rfl (Nat.le_of_ble_eq_true rfl) rfl) ?_
  refine bpg (fun s20 he21 h22 => ?_)
  refine go_sub [1, 0] rfl (sX2_asNow_L17_go this FU _ _ _ he21 ?_)
  clear he21
  revert h22
  refine e1 (fun q0 => ?_)
  subst q0
  exact go_vret (pc := 72) (Y := YX2_asNow) rfl dX2_asNow_72
abbrev YX2_placeOf : mY := (RX2, cX2_placeOf, 5, (Option.some .int), 0, 0, false)
theorem YOK_X2_placeOf : YOK yX2_placeOf 2 := ⟨⟨by decide +kernel, by decide +kernel⟩, by decide +kernel⟩
theorem sX2_placeOf_L35_go {G : gG} {s0 sE : St} {rE : Option V3} (s5 : St) (this : Nat) (i1 : Int32) (i2 : Int32) : ∀ (n : Nat) (v6 : Int32) (v7 : Int32) (v8 : Int32), sX2_placeOf_L35 s5 this i1 i2 n v6 v7 = some v8 → Go G YX2_placeOf s0 sE rE 101 [(3, iV v8)] [] s5 → Go G YX2_placeOf s0 sE rE 35 [(0, rV (some this)), (1, iV i1), (2, iV i2), (3, iV v6), (4, iV v7)] [] s5 := by
  intro n
  induction n with
  | zero => intro v6 v7 v8 h hx; rw [sX2_placeOf_L35] at h; cases h
  | succ n ih =>
    intro v6 v7 v8 h hx
    revert h
    rw [sX2_placeOf_L35]
    refine im (go_iload (pc := 35) (Y := YX2_placeOf) 4 dX2_placeOf_35 rfl) ?_
    refine im (go_aload_n (pc := 37) (Y := YX2_placeOf) 0 dX2_placeOf_37 rfl rfl) ?_
    refine flp (go_gR (pc := 38) (Y := YX2_placeOf) fF1011 (by decide) q1648 (Or.inl rfl) dX2_placeOf_38) (fun v9 => ?_)
    refine im (go_iconst (pc := 41) (Y := YX2_placeOf) (v := 4) dX2_placeOf_41 rfl) ?_
    refine flp (go_lI1 (pc := 42) (Y := YX2_placeOf) dX2_placeOf_42) (fun v10 => ?_)
    refine flp2 (go_icmp_ge (pc := 43) (Y := YX2_placeOf) 101 dX2_placeOf_43 (by decide)) ?_ ?_
    · refine e1 (fun q0 => ?_)
      subst q0
      exact go_sub [3] rfl hx
    · refine im (go_aload_n (pc := 46) (Y := YX2_placeOf) 0 dX2_placeOf_46 rfl rfl) ?_
      refine flp (go_gR (pc := 47) (Y := YX2_placeOf) fF1011 (by decide) q1648 (Or.inl rfl) dX2_placeOf_47) (fun v11 => ?_)
      refine im (go_bipush (pc := 50) (Y := YX2_placeOf) (v := 50) dX2_placeOf_50 rfl) ?_
      refine im (go_iconst (pc := 52) (Y := YX2_placeOf) (v := 3) dX2_placeOf_52 rfl) ?_
      refine im (go_iload (pc := 53) (Y := YX2_placeOf) 4 dX2_placeOf_53 rfl) ?_
      refine im (go_imul (pc := 55) (Y := YX2_placeOf) dX2_placeOf_55) ?_
      refine im (go_iadd (pc := 56) (Y := YX2_placeOf) dX2_placeOf_56) ?_
      refine flp (go_lI1 (pc := 57) (Y := YX2_placeOf) dX2_placeOf_57) (fun v12 => ?_)
      refine im (go_iload_n (pc := 58) (Y := YX2_placeOf) 1 dX2_placeOf_58 rfl rfl) ?_
      refine bpg (fun v13 he18 h19 => ?_)
      have hj95 : Go G YX2_placeOf s0 sE rE 95 [(0, rV (some this)), (1, iV i1), (2, iV i2), (3, iV v13), (4, iV v7)] [] s5 := by
        clear he18
        revert h19
        refine im (go_iinc (pc := 95) (Y := YX2_placeOf) 4 (v := (v7 + 1)) (ls2 := [(4, iV (v7 + 1)), (0, rV (some this)), (1, iV i1), (2, iV i2), (3, iV v13)]) dX2_placeOf_95 rfl rfl (Nat.le_of_ble_eq_true rfl) rfl) ?_
        refine im (go_goto (pc := 98) (Y := YX2_placeOf) 35 dX2_placeOf_98 (by decide)) ?_
        exact fun hq => go_sub [1, 2, 3, 4, 0] rfl (ih _ _ _ hq hx)
      clear h19
      revert he18
      refine flp2 (go_icmp_ne (pc := 59) (Y := YX2_placeOf) 95 dX2_placeOf_59 (by decide)) ?_ ?_
      · refine im (go_aload_n (pc := 62) (Y := YX2_placeOf) 0 dX2_placeOf_62 rfl rfl) ?_
        refine flp (go_gR (pc := 63) (Y := YX2_placeOf) fF1011 (by decide) q1648 (Or.inl rfl) dX2_placeOf_63) (fun v14 => ?_)
        refine im (go_bipush (pc := 66) (Y := YX2_placeOf) (v := 50) dX2_placeOf_66 rfl) ?_
        refine im (go_iconst (pc := 68) (Y := YX2_placeOf) (v := 3) dX2_placeOf_68 rfl) ?_
        refine im (go_iload (pc := 69) (Y := YX2_placeOf) 4 dX2_placeOf_69 rfl) ?_
        refine im (go_imul (pc := 71) (Y := YX2_placeOf) dX2_placeOf_71) ?_
        refine im (go_iadd (pc := 72) (Y := YX2_placeOf) dX2_placeOf_72) ?_
        refine im (go_iconst (pc := 73) (Y := YX2_placeOf) (v := 2) dX2_placeOf_73 rfl) ?_
        refine im (go_iadd (pc := 74) (Y := YX2_placeOf) dX2_placeOf_74) ?_
        refine flp (go_lI1 (pc := 75) (Y := YX2_placeOf) dX2_placeOf_75) (fun v15 => ?_)
        refine im (go_iload_n (pc := 76) (Y := YX2_placeOf) 2 dX2_placeOf_76 rfl rfl) ?_
        refine flp2 (go_icmp_gt (pc := 77) (Y := YX2_placeOf) 95 dX2_placeOf_77 (by decide)) ?_ ?_
        · refine e1 (fun q0 => ?_)
          subst q0
          exact go_sub [0, 1, 2, 3, 4] rfl hj95
        · refine im (go_aload_n (pc := 80) (Y := YX2_placeOf) 0 dX2_placeOf_80 rfl rfl) ?_
          refine flp (go_gR (pc := 81) (Y := YX2_placeOf) fF1011 (by decide) q1648 (Or.inl rfl) dX2_placeOf_81) (fun v16 => ?_)
          refine im (go_bipush (pc := 84) (Y := YX2_placeOf) (v := 50) dX2_placeOf_84 rfl) ?_
          refine im (go_iconst (pc := 86) (Y := YX2_placeOf) (v := 3) dX2_placeOf_86 rfl) ?_
          refine im (go_iload (pc := 87) (Y := YX2_placeOf) 4 dX2_placeOf_87 rfl) ?_
          refine im (go_imul (pc := 89) (Y := YX2_placeOf) dX2_placeOf_89) ?_
          refine im (go_iadd (pc := 90) (Y := YX2_placeOf) dX2_placeOf_90) ?_
          refine im (go_iconst (pc := 91) (Y := YX2_placeOf) (v := 1) dX2_placeOf_91 rfl) ?_
          refine im (go_iadd (pc := 92) (Y := YX2_placeOf) dX2_placeOf_92) ?_
          refine flp (go_lI1 (pc := 93) (Y := YX2_placeOf) dX2_placeOf_93) (fun v17 => ?_)
          refine im (go_istore_n (pc := 94) (Y := YX2_placeOf) (ls2 := [(3, iV v17), (0, rV (some this)), (1, iV i1), (2, iV i2), (4, iV v7)]) dX2_placeOf_94 rfl (Nat.le_of_ble_eq_true rfl) rfl) ?_
          refine e1 (fun q0 => ?_)
          subst q0
          exact go_sub [1, 2, 3, 0, 4] rfl hj95
      · refine e1 (fun q0 => ?_)
        subst q0
        exact go_sub [0, 1, 2, 3, 4] rfl hj95
theorem mX2_placeOf {G : gG} (s0 : St) {this : Nat} {p0 : Int32} {p1 : Int32} {vE : Int32} (h : sX2_placeOf s0 this p0 p1 = some vE) : Mt G YX2_placeOf yX2_placeOf [rV (some this), iV p0, iV p1] s0 (some (iV vE)) s0 := by
  refine go_start (ls0 := [(0, rV (some this)), (1, iV p0), (2, iV p1)]) (by decide +kernel) rfl (fun h => by cases h) (Nat.le_of_ble_eq_true rfl) rfl ?_
  revert h
  unfold sX2_placeOf
  refine im (go_aload_n (pc := 0) (Y := YX2_placeOf) 0 dX2_placeOf_0 rfl rfl) ?_
  refine flp (go_gR (pc := 1) (Y := YX2_placeOf) fF1016 (by decide) q1655 (Or.inl rfl) dX2_placeOf_1) (fun v1 => ?_)
  refine im (go_iload_n (pc := 4) (Y := YX2_placeOf) 1 dX2_placeOf_4 rfl rfl) ?_
  refine flp (go_lI1 (pc := 5) (Y := YX2_placeOf) dX2_placeOf_5) (fun v2 => ?_)
  refine flp2 (go_if_le (pc := 6) (Y := YX2_placeOf) 18 dX2_placeOf_6 (by decide)) ?_ ?_
  · refine im (go_aload_n (pc := 18) (Y := YX2_placeOf) 0 dX2_placeOf_18 rfl rfl) ?_
    refine flp (go_gR (pc := 19) (Y := YX2_placeOf) fF1011 (by decide) q1648 (Or.inl rfl) dX2_placeOf_19) (fun v3 => ?_)
    refine im (go_bipush (pc := 22) (Y := YX2_placeOf) (v := 26) dX2_placeOf_22 rfl) ?_
    refine im (go_iconst (pc := 24) (Y := YX2_placeOf) (v := 4) dX2_placeOf_24 rfl) ?_
    refine im (go_iload_n (pc := 25) (Y := YX2_placeOf) 1 dX2_placeOf_25 rfl rfl) ?_
    refine im (go_imul (pc := 26) (Y := YX2_placeOf) dX2_placeOf_26) ?_
    refine im (go_iadd (pc := 27) (Y := YX2_placeOf) dX2_placeOf_27) ?_
    refine im (go_iconst (pc := 28) (Y := YX2_placeOf) (v := 1) dX2_placeOf_28 rfl) ?_
    refine im (go_iadd (pc := 29) (Y := YX2_placeOf) dX2_placeOf_29) ?_
    refine flp (go_lI1 (pc := 30) (Y := YX2_placeOf) dX2_placeOf_30) (fun v4 => ?_)
    refine im (go_istore_n (pc := 31) (Y := YX2_placeOf) (ls2 := [(3, iV v4), (0, rV (some this)), (1, iV p0), (2, iV p1)]) dX2_placeOf_31 rfl (Nat.le_of_ble_eq_true rfl) rfl) ?_
    refine im (go_iconst (pc := 32) (Y := YX2_placeOf) (v := 0) dX2_placeOf_32 rfl) ?_
    refine im (go_istore (pc := 33) (Y := YX2_placeOf) (ls2 := [(4, iV 0), (3, iV v4), (0, rV (some this)), (1, iV p0), (2, iV p1)]) dX2_placeOf_33 (Nat.le_of_ble_eq_true rfl) rfl) ?_
    refine bpg (fun v20 he21 h22 => ?_)
    refine go_sub [2, 3, 4, 1, 0] rfl (sX2_placeOf_L35_go s0 this p0 p1 FU _ _ _ he21 ?_)
    clear he21
    revert h22
    refine im (go_iload_n (pc := 101) (Y := YX2_placeOf) 0 dX2_placeOf_101 rfl rfl) ?_
    refine e1 (fun q0 => ?_)
    subst q0
    exact go_iret (pc := 102) (Y := YX2_placeOf) rfl dX2_placeOf_102
  · refine im (go_aload_n (pc := 9) (Y := YX2_placeOf) 0 dX2_placeOf_9 rfl rfl) ?_
    refine flp (go_gR (pc := 10) (Y := YX2_placeOf) fF1016 (by decide) q1655 (Or.inl rfl) dX2_placeOf_10) (fun v23 => ?_)
    refine im (go_iload_n (pc := 13) (Y := YX2_placeOf) 1 dX2_placeOf_13 rfl rfl) ?_
    refine flp (go_lI1 (pc := 14) (Y := YX2_placeOf) dX2_placeOf_14) (fun v24 => ?_)
    refine im (go_iconst (pc := 15) (Y := YX2_placeOf) (v := 1) dX2_placeOf_15 rfl) ?_
    refine im (go_isub (pc := 16) (Y := YX2_placeOf) dX2_placeOf_16) ?_
    refine e1 (fun q0 => ?_)
    subst q0
    exact go_iret (pc := 17) (Y := YX2_placeOf) rfl dX2_placeOf_17
abbrev YX2_at : mY := (RX2, cX2_at, 4, (Option.some .int), 2, 46, false)
theorem YOK_X2_at : YOK yX2_at 2 := ⟨⟨by decide +kernel, by decide +kernel⟩, by decide +kernel⟩
theorem mX2_at {G : gG} (s0 : St) {this : Nat} {p0 : Int32} {p1 : Int32} {sE : St} {vE : Int32} (h : sX2_at s0 this p0 p1 = some (sE, vE)) : Mt G YX2_at yX2_at [rV (some this), iV p0, iV p1] s0 (some (iV vE)) sE := by
  refine go_start (ls0 := [(0, rV (some this)), (1, iV p0), (2, iV p1)]) (by decide +kernel) rfl (fun h => by cases h) (Nat.le_of_ble_eq_true rfl) rfl ?_
  revert h
  unfold sX2_at
  refine im (go_aload_n (pc := 0) (Y := YX2_at) 0 dX2_at_0 rfl rfl) ?_
  refine kdg (fun k1 => ?_)
  refine bpg (fun s2 he3 => ?_)
  refine im (go_callV (pc := 1) (Y := YX2_at) (Yc := YX2_good) (y := yX2_good) (n := 0) (c0 := 2) (q := (RX2, TX2, 37)) this [] [] rfl rfl k1 (mX2_good s0 he3) YOK_X2_good rfl q1760 q133 q1759 qs66 q1757 (Nat.le_of_ble_eq_true rfl) (Nat.le_of_ble_eq_true rfl) (Nat.le_of_ble_eq_true rfl) dX2_at_1 (st2 := []) rfl) ?_
  clear he3
  refine im (go_aload_n (pc := 4) (Y := YX2_at) 0 dX2_at_4 rfl rfl) ?_
  refine im (go_aload_n (pc := 5) (Y := YX2_at) 0 dX2_at_5 rfl rfl) ?_
  refine im (go_iload_n (pc := 6) (Y := YX2_at) 1 dX2_at_6 rfl rfl) ?_
  refine kdg (fun k4 => ?_)
  refine bpg (fun v5 he6 => ?_)
  refine im (go_callV (pc := 7) (Y := YX2_at) (Yc := YX2_isPerson) (y := yX2_isPerson) (n := 1) (c0 := 2) (q := (RX2, TX2, 37)) this [iV p0] [rV (some this)] rfl rfl k4 (mX2_isPerson s2 he6) YOK_X2_isPerson rfl q1942 q133 q1941 qs96 q1939 (Nat.le_of_ble_eq_true rfl) (Nat.le_of_ble_eq_true rfl) (Nat.le_of_ble_eq_true rfl) dX2_at_7 (st2 := [iV v5, rV (some this)]) rfl) ?_
  clear he6
  refine im (go_aload_n (pc := 10) (Y := YX2_at) 0 dX2_at_10 rfl rfl) ?_
  refine im (go_iload_n (pc := 11) (Y := YX2_at) 2 dX2_at_11 rfl rfl) ?_
  refine kdg (fun k7 => ?_)
  refine bpg (fun v8 he9 => ?_)
  refine im (go_callV (pc := 12) (Y := YX2_at) (Yc := YX2_isMinute) (y := yX2_isMinute) (n := 1) (c0 := 2) (q := (RX2, TX2, 37)) this [iV p1] [iV v5, rV (some this)] rfl rfl k7 (mX2_isMinute s2 he9) YOK_X2_isMinute rfl q1973 q133 q1972 qs100 q1970 (Nat.le_of_ble_eq_true rfl) (Nat.le_of_ble_eq_true rfl) (Nat.le_of_ble_eq_true rfl) dX2_at_12 (st2 := [iV v8, iV v5, rV (some this)]) rfl) ?_
  clear he9
  refine kdg (fun k10 => ?_)
  refine bpg (fun v11 he12 => ?_)
  refine im (go_callV (pc := 15) (Y := YX2_at) (Yc := YX2_why) (y := yX2_why) (n := 2) (c0 := 2) (q := (RX2, TX2, 37)) this [iV v5, iV v8] [] rfl rfl k10 (mX2_why s2 he12) YOK_X2_why rfl q1977 q133 q1976 qs101 q1974 (Nat.le_of_ble_eq_true rfl) (Nat.le_of_ble_eq_true rfl) (Nat.le_of_ble_eq_true rfl) dX2_at_15 (st2 := [iV v11]) rfl) ?_
  clear he12
  refine im (go_istore_n (pc := 18) (Y := YX2_at) (ls2 := [(3, iV v11), (0, rV (some this)), (1, iV p0), (2, iV p1)]) dX2_at_18 rfl (Nat.le_of_ble_eq_true rfl) rfl) ?_
  refine im (go_iload_n (pc := 19) (Y := YX2_at) 0 dX2_at_19 rfl rfl) ?_
  refine flp2 (go_if_eq (pc := 20) (Y := YX2_at) 29 dX2_at_20 (by decide)) ?_ ?_
  · refine im (go_aload_n (pc := 29) (Y := YX2_at) 1 dX2_at_29 rfl rfl) ?_
    refine kdg (fun k13 => ?_)
    refine bpg (fun s14 he15 => ?_)
    refine im (go_callV (pc := 30) (Y := YX2_at) (Yc := YX2_asNow) (y := yX2_asNow) (n := 0) (c0 := 2) (q := (RX2, TX2, 37)) this [] [] rfl rfl k13 (mX2_asNow s2 he15) YOK_X2_asNow rfl q1981 q133 q1980 qs102 q1978 (Nat.le_of_ble_eq_true rfl) (Nat.le_of_ble_eq_true rfl) (Nat.le_of_ble_eq_true rfl) dX2_at_30 (st2 := []) rfl) ?_
    clear he15
    refine im (go_aload_n (pc := 33) (Y := YX2_at) 1 dX2_at_33 rfl rfl) ?_
    refine im (go_iload_n (pc := 34) (Y := YX2_at) 2 dX2_at_34 rfl rfl) ?_
    refine im (go_iload_n (pc := 35) (Y := YX2_at) 3 dX2_at_35 rfl rfl) ?_
    refine kdg (fun k16 => ?_)
    refine bpg (fun v17 he18 => ?_)
    refine im (go_callV (pc := 36) (Y := YX2_at) (Yc := YX2_placeOf) (y := yX2_placeOf) (n := 2) (c0 := 2) (q := (RX2, TX2, 37)) this [iV p0, iV p1] [] rfl rfl k16 (mX2_placeOf s14 he18) YOK_X2_placeOf rfl q1985 q133 q1984 qs103 q1982 (Nat.le_of_ble_eq_true rfl) (Nat.le_of_ble_eq_true rfl) (Nat.le_of_ble_eq_true rfl) dX2_at_36 (st2 := [iV v17]) rfl) ?_
    clear he18
    refine e2 (fun q0 q1 => ?_)
    subst q0
    subst q1
    exact go_iret (pc := 39) (Y := YX2_at) rfl dX2_at_39
  · refine im (go_aload_n (pc := 23) (Y := YX2_at) 1 dX2_at_23 rfl rfl) ?_
    refine im (go_iload_n (pc := 24) (Y := YX2_at) 0 dX2_at_24 rfl rfl) ?_
    refine kdg (fun k19 => ?_)
    refine bdg (fun s20 v21 he22 => ?_)
    refine im (go_callV (pc := 25) (Y := YX2_at) (Yc := YX2_no) (y := yX2_no) (n := 1) (c0 := 2) (q := (RX2, TX2, 37)) this [iV v11] [] rfl rfl k19 (mX2_no s2 he22) YOK_X2_no rfl q1767 q133 q1766 qs67 q1764 (Nat.le_of_ble_eq_true rfl) (Nat.le_of_ble_eq_true rfl) (Nat.le_of_ble_eq_true rfl) dX2_at_25 (st2 := [iV v21]) rfl) ?_
    clear he22
    refine e2 (fun q0 q1 => ?_)
    subst q0
    subst q1
    exact go_iret (pc := 28) (Y := YX2_at) rfl dX2_at_28
abbrev YX2_isPlace : mY := (RX2, cX2_isPlace, 2, (Option.some .boolean), 1, 22, false)
theorem YOK_X2_isPlace : YOK yX2_isPlace 1 := ⟨⟨by decide +kernel, by decide +kernel⟩, by decide +kernel⟩
theorem mX2_isPlace {G : gG} (s0 : St) {this : Nat} {p0 : Int32} {vE : Int32} (h : sX2_isPlace s0 this p0 = some vE) : Mt G YX2_isPlace yX2_isPlace [rV (some this), iV p0] s0 (some (iV vE)) s0 := by
  refine go_start (ls0 := [(0, rV (some this)), (1, iV p0)]) (by decide +kernel) rfl (fun h => by cases h) (Nat.le_of_ble_eq_true rfl) rfl ?_
  revert h
  unfold sX2_isPlace
  refine im (go_aload_n (pc := 0) (Y := YX2_isPlace) 0 dX2_isPlace_0 rfl rfl) ?_
  refine flp (go_gI (pc := 1) (Y := YX2_isPlace) fF31 (by decide) q1647 (Or.inl rfl) dX2_isPlace_1) (fun v1 => ?_)
  refine flp2 (go_if_eq (pc := 4) (Y := YX2_isPlace) 27 dX2_isPlace_4 (by decide)) ?_ ?_
  · refine im (go_iconst (pc := 27) (Y := YX2_isPlace) (v := 0) dX2_isPlace_27 rfl) ?_
    refine e1 (fun q0 => ?_)
    subst q0
    exact go_zret (pc := 28) (Y := YX2_isPlace) rfl rfl dX2_isPlace_28
  · refine im (go_iload_n (pc := 7) (Y := YX2_isPlace) 1 dX2_isPlace_7 rfl rfl) ?_
    refine im (go_iconst (pc := 8) (Y := YX2_isPlace) (v := 0) dX2_isPlace_8 rfl) ?_
    refine im (go_aload_n (pc := 9) (Y := YX2_isPlace) 0 dX2_isPlace_9 rfl rfl) ?_
    refine flp (go_gR (pc := 10) (Y := YX2_isPlace) fF1011 (by decide) q1648 (Or.inl rfl) dX2_isPlace_10) (fun v2 => ?_)
    refine im (go_iconst (pc := 13) (Y := YX2_isPlace) (v := 1) dX2_isPlace_13 rfl) ?_
    refine flp (go_lI1 (pc := 14) (Y := YX2_isPlace) dX2_isPlace_14) (fun v3 => ?_)
    refine im (go_iconst (pc := 15) (Y := YX2_isPlace) (v := 1) dX2_isPlace_15 rfl) ?_
    refine im (go_isub (pc := 16) (Y := YX2_isPlace) dX2_isPlace_16) ?_
    refine bpg (fun v4 he5 => ?_)
    refine im (go_callS (pc := 17) (Y := YX2_isPlace) (Yc := YX2_in) (y := yX2_in) (n := 3) [iV p0, iV 0, iV (v3 - 1)] [] rfl (mX2_in s0 he5) YOK_X2_in rfl q1763 q133 q1762 q1761 (Nat.le_of_ble_eq_true rfl) (Nat.le_of_ble_eq_true rfl) (Nat.le_of_ble_eq_true rfl) dX2_isPlace_17 (st2 := [iV v4]) rfl) ?_
    clear he5
    refine flp2 (go_if_eq (pc := 20) (Y := YX2_isPlace) 27 dX2_isPlace_20 (by decide)) ?_ ?_
    · refine im (go_iconst (pc := 27) (Y := YX2_isPlace) (v := 0) dX2_isPlace_27 rfl) ?_
      refine e1 (fun q0 => ?_)
      subst q0
      exact go_zret (pc := 28) (Y := YX2_isPlace) rfl rfl dX2_isPlace_28
    · refine im (go_iconst (pc := 23) (Y := YX2_isPlace) (v := 1) dX2_isPlace_23 rfl) ?_
      refine im (go_goto (pc := 24) (Y := YX2_isPlace) 28 dX2_isPlace_24 (by decide)) ?_
      refine e1 (fun q0 => ?_)
      subst q0
      exact go_zret (pc := 28) (Y := YX2_isPlace) rfl rfl dX2_isPlace_28
abbrev YX2_hasBit : mY := (RX2, cX2_hasBit, 2, (Option.some .boolean), 0, 0, false)
theorem YOK_X2_hasBit : YOK yX2_hasBit 2 := ⟨⟨by decide +kernel, by decide +kernel⟩, by decide +kernel⟩
theorem mX2_hasBit {G : gG} (s0 : St) {p0 : Int32} {p1 : Int32} {vE : Int32} (h : sX2_hasBit s0 p0 p1 = some vE) : Mt G YX2_hasBit yX2_hasBit [iV p0, iV p1] s0 (some (iV vE)) s0 := by
  refine go_start (ls0 := [(0, iV p0), (1, iV p1)]) (by decide +kernel) rfl (fun h => by cases h) (Nat.le_of_ble_eq_true rfl) rfl ?_
  revert h
  unfold sX2_hasBit
  refine im (go_iload_n (pc := 0) (Y := YX2_hasBit) 0 dX2_hasBit_0 rfl rfl) ?_
  refine im (go_iload_n (pc := 1) (Y := YX2_hasBit) 1 dX2_hasBit_1 rfl rfl) ?_
  refine im (go_ishr (pc := 2) (Y := YX2_hasBit) dX2_hasBit_2) ?_
  refine im (go_iconst (pc := 3) (Y := YX2_hasBit) (v := 1) dX2_hasBit_3 rfl) ?_
  refine im (go_iand (pc := 4) (Y := YX2_hasBit) dX2_hasBit_4) ?_
  refine im (go_iconst (pc := 5) (Y := YX2_hasBit) (v := 1) dX2_hasBit_5 rfl) ?_
  refine flp2 (go_icmp_ne (pc := 6) (Y := YX2_hasBit) 13 dX2_hasBit_6 (by decide)) ?_ ?_
  · refine im (go_iconst (pc := 9) (Y := YX2_hasBit) (v := 1) dX2_hasBit_9 rfl) ?_
    refine im (go_goto (pc := 10) (Y := YX2_hasBit) 14 dX2_hasBit_10 (by decide)) ?_
    refine e1 (fun q0 => ?_)
    subst q0
    exact go_zret (pc := 14) (Y := YX2_hasBit) rfl rfl dX2_hasBit_14
  · refine im (go_iconst (pc := 13) (Y := YX2_hasBit) (v := 0) dX2_hasBit_13 rfl) ?_
    refine e1 (fun q0 => ?_)
    subst q0
    exact go_zret (pc := 14) (Y := YX2_hasBit) rfl rfl dX2_hasBit_14
abbrev YX2_intoOf : mY := (RX2, cX2_intoOf, 4, (Option.some .int), 1, 21, false)
theorem YOK_X2_intoOf : YOK yX2_intoOf 1 := ⟨⟨by decide +kernel, by decide +kernel⟩, by decide +kernel⟩
theorem sX2_intoOf_L6_go {G : gG} {s0 sE : St} {rE : Option V3} (s1 : St) (this : Nat) (i1 : Int32) : ∀ (n : Nat) (v2 : Int32) (v3 : Int32) (v4 : Int32), sX2_intoOf_L6 s1 this i1 n v2 v3 = some v4 → Go G YX2_intoOf s0 sE rE 73 [(2, iV v4)] [] s1 → Go G YX2_intoOf s0 sE rE 6 [(0, rV (some this)), (1, iV i1), (2, iV v2), (3, iV v3)] [] s1 := by
  intro n
  induction n with
  | zero => intro v2 v3 v4 h hx; rw [sX2_intoOf_L6] at h; cases h
  | succ n ih =>
    intro v2 v3 v4 h hx
    revert h
    rw [sX2_intoOf_L6]
    refine im (go_iload_n (pc := 6) (Y := YX2_intoOf) 3 dX2_intoOf_6 rfl rfl) ?_
    refine im (go_aload_n (pc := 7) (Y := YX2_intoOf) 0 dX2_intoOf_7 rfl rfl) ?_
    refine flp (go_gR (pc := 8) (Y := YX2_intoOf) fF1011 (by decide) q1648 (Or.inl rfl) dX2_intoOf_8) (fun v5 => ?_)
    refine im (go_iconst (pc := 11) (Y := YX2_intoOf) (v := 2) dX2_intoOf_11 rfl) ?_
    refine flp (go_lI1 (pc := 12) (Y := YX2_intoOf) dX2_intoOf_12) (fun v6 => ?_)
    refine flp2 (go_icmp_ge (pc := 13) (Y := YX2_intoOf) 73 dX2_intoOf_13 (by decide)) ?_ ?_
    · refine e1 (fun q0 => ?_)
      subst q0
      exact go_sub [2] rfl hx
    · refine im (go_iload_n (pc := 16) (Y := YX2_intoOf) 2 dX2_intoOf_16 rfl rfl) ?_
      refine im (go_aload_n (pc := 17) (Y := YX2_intoOf) 0 dX2_intoOf_17 rfl rfl) ?_
      refine flp (go_gR (pc := 18) (Y := YX2_intoOf) fF1011 (by decide) q1648 (Or.inl rfl) dX2_intoOf_18) (fun v7 => ?_)
      refine im (go_bipush (pc := 21) (Y := YX2_intoOf) (v := 10) dX2_intoOf_21 rfl) ?_
      refine im (go_iconst (pc := 23) (Y := YX2_intoOf) (v := 2) dX2_intoOf_23 rfl) ?_
      refine im (go_iload_n (pc := 24) (Y := YX2_intoOf) 3 dX2_intoOf_24 rfl rfl) ?_
      refine im (go_imul (pc := 25) (Y := YX2_intoOf) dX2_intoOf_25) ?_
      refine im (go_iadd (pc := 26) (Y := YX2_intoOf) dX2_intoOf_26) ?_
      refine flp (go_lI1 (pc := 27) (Y := YX2_intoOf) dX2_intoOf_27) (fun v8 => ?_)
      refine im (go_iload_n (pc := 28) (Y := YX2_intoOf) 1 dX2_intoOf_28 rfl rfl) ?_
      refine bpg (fun v9 he16 h17 => ?_)
      have hj65 : Go G YX2_intoOf s0 sE rE 65 [(0, rV (some this)), (1, iV i1), (3, iV v3)] [iV v9, iV v2] s1 := by
        clear he16
        revert h17
        refine im (go_ior (pc := 65) (Y := YX2_intoOf) dX2_intoOf_65) ?_
        refine im (go_istore_n (pc := 66) (Y := YX2_intoOf) (ls2 := [(2, iV (v2 ||| v9)), (0, rV (some this)), (1, iV i1), (3, iV v3)]) dX2_intoOf_66 rfl (Nat.le_of_ble_eq_true rfl) rfl) ?_
        refine im (go_iinc (pc := 67) (Y := YX2_intoOf) 3 (v := (v3 + 1)) (ls2 := [(3, iV (v3 + 1)), (2, iV (v2 ||| v9)), (0, rV (some this)), (1, iV i1)]) dX2_intoOf_67 rfl rfl (Nat.le_of_ble_eq_true rfl) rfl) ?_
        refine im (go_goto (pc := 70) (Y := YX2_intoOf) 6 dX2_intoOf_70 (by decide)) ?_
        exact fun hq => go_sub [2, 3, 1, 0] rfl (ih _ _ _ hq hx)
      clear h17
      revert he16
      refine flp2 (go_icmp_ne (pc := 29) (Y := YX2_intoOf) 64 dX2_intoOf_29 (by decide)) ?_ ?_
      · refine im (go_aload_n (pc := 32) (Y := YX2_intoOf) 0 dX2_intoOf_32 rfl rfl) ?_
        refine flp (go_gR (pc := 33) (Y := YX2_intoOf) fF1016 (by decide) q1655 (Or.inl rfl) dX2_intoOf_33) (fun v10 => ?_)
        refine im (go_bipush (pc := 36) (Y := YX2_intoOf) (v := 6) dX2_intoOf_36 rfl) ?_
        refine flp (go_lI1 (pc := 38) (Y := YX2_intoOf) dX2_intoOf_38) (fun v11 => ?_)
        refine im (go_iload_n (pc := 39) (Y := YX2_intoOf) 3 dX2_intoOf_39 rfl rfl) ?_
        refine bpg (fun v12 he13 => ?_)
        refine im (go_callS (pc := 40) (Y := YX2_intoOf) (Yc := YX2_hasBit) (y := yX2_hasBit) (n := 2) [iV v11, iV v3] [iV v2] rfl (mX2_hasBit s1 he13) YOK_X2_hasBit rfl q2000 q133 q1999 q1998 (Nat.le_of_ble_eq_true rfl) (Nat.le_of_ble_eq_true rfl) (Nat.le_of_ble_eq_true rfl) dX2_intoOf_40 (st2 := [iV v12, iV v2]) rfl) ?_
        clear he13
        refine flp2 (go_if_ne (pc := 43) (Y := YX2_intoOf) 64 dX2_intoOf_43 (by decide)) ?_ ?_
        · refine im (go_iconst (pc := 46) (Y := YX2_intoOf) (v := 1) dX2_intoOf_46 rfl) ?_
          refine im (go_aload_n (pc := 47) (Y := YX2_intoOf) 0 dX2_intoOf_47 rfl rfl) ?_
          refine flp (go_gR (pc := 48) (Y := YX2_intoOf) fF1011 (by decide) q1648 (Or.inl rfl) dX2_intoOf_48) (fun v14 => ?_)
          refine im (go_bipush (pc := 51) (Y := YX2_intoOf) (v := 10) dX2_intoOf_51 rfl) ?_
          refine im (go_iconst (pc := 53) (Y := YX2_intoOf) (v := 2) dX2_intoOf_53 rfl) ?_
          refine im (go_iload_n (pc := 54) (Y := YX2_intoOf) 3 dX2_intoOf_54 rfl rfl) ?_
          refine im (go_imul (pc := 55) (Y := YX2_intoOf) dX2_intoOf_55) ?_
          refine im (go_iadd (pc := 56) (Y := YX2_intoOf) dX2_intoOf_56) ?_
          refine im (go_iconst (pc := 57) (Y := YX2_intoOf) (v := 1) dX2_intoOf_57 rfl) ?_
          refine im (go_iadd (pc := 58) (Y := YX2_intoOf) dX2_intoOf_58) ?_
          refine flp (go_lI1 (pc := 59) (Y := YX2_intoOf) dX2_intoOf_59) (fun v15 => ?_)
          refine im (go_ishl (pc := 60) (Y := YX2_intoOf) dX2_intoOf_60) ?_
          refine im (go_goto (pc := 61) (Y := YX2_intoOf) 65 dX2_intoOf_61 (by decide)) ?_
          refine e1 (fun q0 => ?_)
          subst q0
          exact go_sub [0, 1, 3] rfl hj65
        · refine im (go_iconst (pc := 64) (Y := YX2_intoOf) (v := 0) dX2_intoOf_64 rfl) ?_
          refine e1 (fun q0 => ?_)
          subst q0
          exact go_sub [0, 1, 3] rfl hj65
      · refine im (go_iconst (pc := 64) (Y := YX2_intoOf) (v := 0) dX2_intoOf_64 rfl) ?_
        refine e1 (fun q0 => ?_)
        subst q0
        exact go_sub [0, 1, 3] rfl hj65
theorem mX2_intoOf {G : gG} (s0 : St) {this : Nat} {p0 : Int32} {vE : Int32} (h : sX2_intoOf s0 this p0 = some vE) : Mt G YX2_intoOf yX2_intoOf [rV (some this), iV p0] s0 (some (iV vE)) s0 := by
  refine go_start (ls0 := [(0, rV (some this)), (1, iV p0)]) (by decide +kernel) rfl (fun h => by cases h) (Nat.le_of_ble_eq_true rfl) rfl ?_
  revert h
  unfold sX2_intoOf
  refine im (go_iconst (pc := 0) (Y := YX2_intoOf) (v := 1) dX2_intoOf_0 rfl) ?_
  refine im (go_iload_n (pc := 1) (Y := YX2_intoOf) 1 dX2_intoOf_1 rfl rfl) ?_
  refine im (go_ishl (pc := 2) (Y := YX2_intoOf) dX2_intoOf_2) ?_
  refine im (go_istore_n (pc := 3) (Y := YX2_intoOf) (ls2 := [(2, iV ((1 : Int32) <<< (p0 &&& 31))), (0, rV (some this)), (1, iV p0)]) dX2_intoOf_3 rfl (Nat.le_of_ble_eq_true rfl) rfl) ?_
  refine im (go_iconst (pc := 4) (Y := YX2_intoOf) (v := 0) dX2_intoOf_4 rfl) ?_
  refine im (go_istore_n (pc := 5) (Y := YX2_intoOf) (ls2 := [(3, iV 0), (2, iV ((1 : Int32) <<< (p0 &&& 31))), (0, rV (some this)), (1, iV p0)]) dX2_intoOf_5 rfl (Nat.le_of_ble_eq_true rfl) rfl) ?_
  refine bpg (fun v18 he19 h20 => ?_)
  refine go_sub [2, 3, 1, 0] rfl (sX2_intoOf_L6_go s0 this p0 FU _ _ _ he19 ?_)
  clear he19
  revert h20
  refine im (go_iload_n (pc := 73) (Y := YX2_intoOf) 0 dX2_intoOf_73 rfl rfl) ?_
  refine e1 (fun q0 => ?_)
  subst q0
  exact go_iret (pc := 74) (Y := YX2_intoOf) rfl dX2_intoOf_74
abbrev YX2_into : mY := (RX2, cX2_into, 2, (Option.some .int), 2, 46, false)
theorem YOK_X2_into : YOK yX2_into 1 := ⟨⟨by decide +kernel, by decide +kernel⟩, by decide +kernel⟩
theorem mX2_into {G : gG} (s0 : St) {this : Nat} {p0 : Int32} {sE : St} {vE : Int32} (h : sX2_into s0 this p0 = some (sE, vE)) : Mt G YX2_into yX2_into [rV (some this), iV p0] s0 (some (iV vE)) sE := by
  refine go_start (ls0 := [(0, rV (some this)), (1, iV p0)]) (by decide +kernel) rfl (fun h => by cases h) (Nat.le_of_ble_eq_true rfl) rfl ?_
  revert h
  unfold sX2_into
  refine im (go_aload_n (pc := 0) (Y := YX2_into) 0 dX2_into_0 rfl rfl) ?_
  refine kdg (fun k1 => ?_)
  refine bpg (fun s2 he3 => ?_)
  refine im (go_callV (pc := 1) (Y := YX2_into) (Yc := YX2_good) (y := yX2_good) (n := 0) (c0 := 2) (q := (RX2, TX2, 37)) this [] [] rfl rfl k1 (mX2_good s0 he3) YOK_X2_good rfl q1760 q133 q1759 qs66 q1757 (Nat.le_of_ble_eq_true rfl) (Nat.le_of_ble_eq_true rfl) (Nat.le_of_ble_eq_true rfl) dX2_into_1 (st2 := []) rfl) ?_
  clear he3
  refine im (go_aload_n (pc := 4) (Y := YX2_into) 0 dX2_into_4 rfl rfl) ?_
  refine im (go_iload_n (pc := 5) (Y := YX2_into) 1 dX2_into_5 rfl rfl) ?_
  refine kdg (fun k4 => ?_)
  refine bpg (fun v5 he6 => ?_)
  refine im (go_callV (pc := 6) (Y := YX2_into) (Yc := YX2_isPlace) (y := yX2_isPlace) (n := 1) (c0 := 2) (q := (RX2, TX2, 37)) this [iV p0] [] rfl rfl k4 (mX2_isPlace s2 he6) YOK_X2_isPlace rfl q1993 q133 q1992 qs104 q1990 (Nat.le_of_ble_eq_true rfl) (Nat.le_of_ble_eq_true rfl) (Nat.le_of_ble_eq_true rfl) dX2_into_6 (st2 := [iV v5]) rfl) ?_
  clear he6
  refine flp2 (go_if_ne (pc := 9) (Y := YX2_into) 18 dX2_into_9 (by decide)) ?_ ?_
  · refine im (go_aload_n (pc := 12) (Y := YX2_into) 0 dX2_into_12 rfl rfl) ?_
    refine im (go_iconst (pc := 13) (Y := YX2_into) (v := 1) dX2_into_13 rfl) ?_
    refine kdg (fun k7 => ?_)
    refine bdg (fun s8 v9 he10 => ?_)
    refine im (go_callV (pc := 14) (Y := YX2_into) (Yc := YX2_no) (y := yX2_no) (n := 1) (c0 := 2) (q := (RX2, TX2, 37)) this [iV 1] [] rfl rfl k7 (mX2_no s2 he10) YOK_X2_no rfl q1767 q133 q1766 qs67 q1764 (Nat.le_of_ble_eq_true rfl) (Nat.le_of_ble_eq_true rfl) (Nat.le_of_ble_eq_true rfl) dX2_into_14 (st2 := [iV v9]) rfl) ?_
    clear he10
    refine e2 (fun q0 q1 => ?_)
    subst q0
    subst q1
    exact go_iret (pc := 17) (Y := YX2_into) rfl dX2_into_17
  · refine im (go_aload_n (pc := 18) (Y := YX2_into) 0 dX2_into_18 rfl rfl) ?_
    refine kdg (fun k11 => ?_)
    refine bpg (fun s12 he13 => ?_)
    refine im (go_callV (pc := 19) (Y := YX2_into) (Yc := YX2_asNow) (y := yX2_asNow) (n := 0) (c0 := 2) (q := (RX2, TX2, 37)) this [] [] rfl rfl k11 (mX2_asNow s2 he13) YOK_X2_asNow rfl q1981 q133 q1980 qs102 q1978 (Nat.le_of_ble_eq_true rfl) (Nat.le_of_ble_eq_true rfl) (Nat.le_of_ble_eq_true rfl) dX2_into_19 (st2 := []) rfl) ?_
    clear he13
    refine im (go_aload_n (pc := 22) (Y := YX2_into) 0 dX2_into_22 rfl rfl) ?_
    refine im (go_iload_n (pc := 23) (Y := YX2_into) 1 dX2_into_23 rfl rfl) ?_
    refine kdg (fun k14 => ?_)
    refine bpg (fun v15 he16 => ?_)
    refine im (go_callV (pc := 24) (Y := YX2_into) (Yc := YX2_intoOf) (y := yX2_intoOf) (n := 1) (c0 := 2) (q := (RX2, TX2, 37)) this [iV p0] [] rfl rfl k14 (mX2_intoOf s12 he16) YOK_X2_intoOf rfl q1997 q133 q1996 qs105 q1994 (Nat.le_of_ble_eq_true rfl) (Nat.le_of_ble_eq_true rfl) (Nat.le_of_ble_eq_true rfl) dX2_into_24 (st2 := [iV v15]) rfl) ?_
    clear he16
    refine e2 (fun q0 q1 => ?_)
    subst q0
    subst q1
    exact go_iret (pc := 27) (Y := YX2_into) rfl dX2_into_27
abbrev YX2_watchersOf : mY := (RX2, cX2_watchersOf, 5, (Option.some .int), 2, 44, false)
theorem YOK_X2_watchersOf : YOK yX2_watchersOf 2 := ⟨⟨by decide +kernel, by decide +kernel⟩, by decide +kernel⟩
theorem sX2_watchersOf_L5_go {G : gG} {s0 sE : St} {rE : Option V3} (s1 : St) (this : Nat) (i1 : Int32) (i2 : Int32) : ∀ (n : Nat) (v2 : Int32) (v3 : Int32) (v4 : Int32), sX2_watchersOf_L5 s1 this i1 i2 n v2 v3 = some v4 → Go G YX2_watchersOf s0 sE rE 51 [(3, iV v4)] [] s1 → Go G YX2_watchersOf s0 sE rE 5 [(0, rV (some this)), (1, iV i1), (2, iV i2), (3, iV v2), (4, iV v3)] [] s1 := by
  intro n
  induction n with
  | zero => intro v2 v3 v4 h hx; rw [sX2_watchersOf_L5] at h; cases h
  | succ n ih =>
    intro v2 v3 v4 h hx
    revert h
    rw [sX2_watchersOf_L5]
    refine im (go_iload (pc := 5) (Y := YX2_watchersOf) 4 dX2_watchersOf_5 rfl) ?_
    refine im (go_aload_n (pc := 7) (Y := YX2_watchersOf) 0 dX2_watchersOf_7 rfl rfl) ?_
    refine flp (go_gR (pc := 8) (Y := YX2_watchersOf) fF1011 (by decide) q1648 (Or.inl rfl) dX2_watchersOf_8) (fun v5 => ?_)
    refine im (go_iconst (pc := 11) (Y := YX2_watchersOf) (v := 3) dX2_watchersOf_11 rfl) ?_
    refine flp (go_lI1 (pc := 12) (Y := YX2_watchersOf) dX2_watchersOf_12) (fun v6 => ?_)
    refine flp2 (go_icmp_ge (pc := 13) (Y := YX2_watchersOf) 51 dX2_watchersOf_13 (by decide)) ?_ ?_
    · refine e1 (fun q0 => ?_)
      subst q0
      exact go_sub [3] rfl hx
    · refine im (go_iload_n (pc := 16) (Y := YX2_watchersOf) 3 dX2_watchersOf_16 rfl rfl) ?_
      refine im (go_aload_n (pc := 17) (Y := YX2_watchersOf) 0 dX2_watchersOf_17 rfl rfl) ?_
      refine im (go_aload_n (pc := 18) (Y := YX2_watchersOf) 0 dX2_watchersOf_18 rfl rfl) ?_
      refine im (go_iload (pc := 19) (Y := YX2_watchersOf) 4 dX2_watchersOf_19 rfl) ?_
      refine im (go_iload_n (pc := 21) (Y := YX2_watchersOf) 2 dX2_watchersOf_21 rfl rfl) ?_
      refine kdg (fun k7 => ?_)
      refine bpg (fun v8 he9 => ?_)
      refine im (go_callV (pc := 22) (Y := YX2_watchersOf) (Yc := YX2_placeOf) (y := yX2_placeOf) (n := 2) (c0 := 2) (q := (RX2, TX2, 37)) this [iV v3, iV i2] [rV (some this), iV v2] rfl rfl k7 (mX2_placeOf s1 he9) YOK_X2_placeOf rfl q1985 q133 q1984 qs103 q1982 (Nat.le_of_ble_eq_true rfl) (Nat.le_of_ble_eq_true rfl) (Nat.le_of_ble_eq_true rfl) dX2_watchersOf_22 (st2 := [iV v8, rV (some this), iV v2]) rfl) ?_
      clear he9
      refine kdg (fun k10 => ?_)
      refine bpg (fun v11 he12 => ?_)
      refine im (go_callV (pc := 25) (Y := YX2_watchersOf) (Yc := YX2_intoOf) (y := yX2_intoOf) (n := 1) (c0 := 2) (q := (RX2, TX2, 37)) this [iV v8] [iV v2] rfl rfl k10 (mX2_intoOf s1 he12) YOK_X2_intoOf rfl q1997 q133 q1996 qs105 q1994 (Nat.le_of_ble_eq_true rfl) (Nat.le_of_ble_eq_true rfl) (Nat.le_of_ble_eq_true rfl) dX2_watchersOf_25 (st2 := [iV v11, iV v2]) rfl) ?_
      clear he12
      refine im (go_iload_n (pc := 28) (Y := YX2_watchersOf) 1 dX2_watchersOf_28 rfl rfl) ?_
      refine bpg (fun v13 he14 => ?_)
      refine im (go_callS (pc := 29) (Y := YX2_watchersOf) (Yc := YX2_hasBit) (y := yX2_hasBit) (n := 2) [iV v11, iV i1] [iV v2] rfl (mX2_hasBit s1 he14) YOK_X2_hasBit rfl q2000 q133 q1999 q1998 (Nat.le_of_ble_eq_true rfl) (Nat.le_of_ble_eq_true rfl) (Nat.le_of_ble_eq_true rfl) dX2_watchersOf_29 (st2 := [iV v13, iV v2]) rfl) ?_
      clear he14
      refine bpg (fun v15 he16 h17 => ?_)
      have hj43 : Go G YX2_watchersOf s0 sE rE 43 [(0, rV (some this)), (1, iV i1), (2, iV i2), (4, iV v3)] [iV v15, iV v2] s1 := by
        clear he16
        revert h17
        refine im (go_ior (pc := 43) (Y := YX2_watchersOf) dX2_watchersOf_43) ?_
        refine im (go_istore_n (pc := 44) (Y := YX2_watchersOf) (ls2 := [(3, iV (v2 ||| v15)), (0, rV (some this)), (1, iV i1), (2, iV i2), (4, iV v3)]) dX2_watchersOf_44 rfl (Nat.le_of_ble_eq_true rfl) rfl) ?_
        refine im (go_iinc (pc := 45) (Y := YX2_watchersOf) 4 (v := (v3 + 1)) (ls2 := [(4, iV (v3 + 1)), (3, iV (v2 ||| v15)), (0, rV (some this)), (1, iV i1), (2, iV i2)]) dX2_watchersOf_45 rfl rfl (Nat.le_of_ble_eq_true rfl) rfl) ?_
        refine im (go_goto (pc := 48) (Y := YX2_watchersOf) 5 dX2_watchersOf_48 (by decide)) ?_
        exact fun hq => go_sub [2, 3, 4, 1, 0] rfl (ih _ _ _ hq hx)
      clear h17
      revert he16
      refine flp2 (go_if_eq (pc := 32) (Y := YX2_watchersOf) 42 dX2_watchersOf_32 (by decide)) ?_ ?_
      · refine im (go_iconst (pc := 42) (Y := YX2_watchersOf) (v := 0) dX2_watchersOf_42 rfl) ?_
        refine e1 (fun q0 => ?_)
        subst q0
        exact go_sub [0, 1, 2, 4] rfl hj43
      · refine im (go_iconst (pc := 35) (Y := YX2_watchersOf) (v := 1) dX2_watchersOf_35 rfl) ?_
        refine im (go_iload (pc := 36) (Y := YX2_watchersOf) 4 dX2_watchersOf_36 rfl) ?_
        refine im (go_ishl (pc := 38) (Y := YX2_watchersOf) dX2_watchersOf_38) ?_
        refine im (go_goto (pc := 39) (Y := YX2_watchersOf) 43 dX2_watchersOf_39 (by decide)) ?_
        refine e1 (fun q0 => ?_)
        subst q0
        exact go_sub [0, 1, 2, 4] rfl hj43
theorem mX2_watchersOf {G : gG} (s0 : St) {this : Nat} {p0 : Int32} {p1 : Int32} {vE : Int32} (h : sX2_watchersOf s0 this p0 p1 = some vE) : Mt G YX2_watchersOf yX2_watchersOf [rV (some this), iV p0, iV p1] s0 (some (iV vE)) s0 := by
  refine go_start (ls0 := [(0, rV (some this)), (1, iV p0), (2, iV p1)]) (by decide +kernel) rfl (fun h => by cases h) (Nat.le_of_ble_eq_true rfl) rfl ?_
  revert h
  unfold sX2_watchersOf
  refine im (go_iconst (pc := 0) (Y := YX2_watchersOf) (v := 0) dX2_watchersOf_0 rfl) ?_
  refine im (go_istore_n (pc := 1) (Y := YX2_watchersOf) (ls2 := [(3, iV 0), (0, rV (some this)), (1, iV p0), (2, iV p1)]) dX2_watchersOf_1 rfl (Nat.le_of_ble_eq_true rfl) rfl) ?_
  refine im (go_iconst (pc := 2) (Y := YX2_watchersOf) (v := 0) dX2_watchersOf_2 rfl) ?_
  refine im (go_istore (pc := 3) (Y := YX2_watchersOf) (ls2 := [(4, iV 0), (3, iV 0), (0, rV (some this)), (1, iV p0), (2, iV p1)]) dX2_watchersOf_3 (Nat.le_of_ble_eq_true rfl) rfl) ?_
  refine bpg (fun v18 he19 h20 => ?_)
  refine go_sub [2, 3, 4, 1, 0] rfl (sX2_watchersOf_L5_go s0 this p0 p1 FU _ _ _ he19 ?_)
  clear he19
  revert h20
  refine im (go_iload_n (pc := 51) (Y := YX2_watchersOf) 0 dX2_watchersOf_51 rfl rfl) ?_
  refine e1 (fun q0 => ?_)
  subst q0
  exact go_iret (pc := 52) (Y := YX2_watchersOf) rfl dX2_watchersOf_52
abbrev YX2_watchers : mY := (RX2, cX2_watchers, 4, (Option.some .int), 3, 68, false)
theorem YOK_X2_watchers : YOK yX2_watchers 2 := ⟨⟨by decide +kernel, by decide +kernel⟩, by decide +kernel⟩
theorem mX2_watchers {G : gG} (s0 : St) {this : Nat} {p0 : Int32} {p1 : Int32} {sE : St} {vE : Int32} (h : sX2_watchers s0 this p0 p1 = some (sE, vE)) : Mt G YX2_watchers yX2_watchers [rV (some this), iV p0, iV p1] s0 (some (iV vE)) sE := by
  refine go_start (ls0 := [(0, rV (some this)), (1, iV p0), (2, iV p1)]) (by decide +kernel) rfl (fun h => by cases h) (Nat.le_of_ble_eq_true rfl) rfl ?_
  revert h
  unfold sX2_watchers
  refine im (go_aload_n (pc := 0) (Y := YX2_watchers) 0 dX2_watchers_0 rfl rfl) ?_
  refine kdg (fun k1 => ?_)
  refine bpg (fun s2 he3 => ?_)
  refine im (go_callV (pc := 1) (Y := YX2_watchers) (Yc := YX2_good) (y := yX2_good) (n := 0) (c0 := 2) (q := (RX2, TX2, 37)) this [] [] rfl rfl k1 (mX2_good s0 he3) YOK_X2_good rfl q1760 q133 q1759 qs66 q1757 (Nat.le_of_ble_eq_true rfl) (Nat.le_of_ble_eq_true rfl) (Nat.le_of_ble_eq_true rfl) dX2_watchers_1 (st2 := []) rfl) ?_
  clear he3
  refine im (go_aload_n (pc := 4) (Y := YX2_watchers) 0 dX2_watchers_4 rfl rfl) ?_
  refine im (go_aload_n (pc := 5) (Y := YX2_watchers) 0 dX2_watchers_5 rfl rfl) ?_
  refine im (go_iload_n (pc := 6) (Y := YX2_watchers) 1 dX2_watchers_6 rfl rfl) ?_
  refine kdg (fun k4 => ?_)
  refine bpg (fun v5 he6 => ?_)
  refine im (go_callV (pc := 7) (Y := YX2_watchers) (Yc := YX2_isPlace) (y := yX2_isPlace) (n := 1) (c0 := 2) (q := (RX2, TX2, 37)) this [iV p0] [rV (some this)] rfl rfl k4 (mX2_isPlace s2 he6) YOK_X2_isPlace rfl q1993 q133 q1992 qs104 q1990 (Nat.le_of_ble_eq_true rfl) (Nat.le_of_ble_eq_true rfl) (Nat.le_of_ble_eq_true rfl) dX2_watchers_7 (st2 := [iV v5, rV (some this)]) rfl) ?_
  clear he6
  refine im (go_aload_n (pc := 10) (Y := YX2_watchers) 0 dX2_watchers_10 rfl rfl) ?_
  refine im (go_iload_n (pc := 11) (Y := YX2_watchers) 2 dX2_watchers_11 rfl rfl) ?_
  refine kdg (fun k7 => ?_)
  refine bpg (fun v8 he9 => ?_)
  refine im (go_callV (pc := 12) (Y := YX2_watchers) (Yc := YX2_isMinute) (y := yX2_isMinute) (n := 1) (c0 := 2) (q := (RX2, TX2, 37)) this [iV p1] [iV v5, rV (some this)] rfl rfl k7 (mX2_isMinute s2 he9) YOK_X2_isMinute rfl q1973 q133 q1972 qs100 q1970 (Nat.le_of_ble_eq_true rfl) (Nat.le_of_ble_eq_true rfl) (Nat.le_of_ble_eq_true rfl) dX2_watchers_12 (st2 := [iV v8, iV v5, rV (some this)]) rfl) ?_
  clear he9
  refine kdg (fun k10 => ?_)
  refine bpg (fun v11 he12 => ?_)
  refine im (go_callV (pc := 15) (Y := YX2_watchers) (Yc := YX2_why) (y := yX2_why) (n := 2) (c0 := 2) (q := (RX2, TX2, 37)) this [iV v5, iV v8] [] rfl rfl k10 (mX2_why s2 he12) YOK_X2_why rfl q1977 q133 q1976 qs101 q1974 (Nat.le_of_ble_eq_true rfl) (Nat.le_of_ble_eq_true rfl) (Nat.le_of_ble_eq_true rfl) dX2_watchers_15 (st2 := [iV v11]) rfl) ?_
  clear he12
  refine im (go_istore_n (pc := 18) (Y := YX2_watchers) (ls2 := [(3, iV v11), (0, rV (some this)), (1, iV p0), (2, iV p1)]) dX2_watchers_18 rfl (Nat.le_of_ble_eq_true rfl) rfl) ?_
  refine im (go_iload_n (pc := 19) (Y := YX2_watchers) 0 dX2_watchers_19 rfl rfl) ?_
  refine flp2 (go_if_eq (pc := 20) (Y := YX2_watchers) 29 dX2_watchers_20 (by decide)) ?_ ?_
  · refine im (go_aload_n (pc := 29) (Y := YX2_watchers) 1 dX2_watchers_29 rfl rfl) ?_
    refine kdg (fun k13 => ?_)
    refine bpg (fun s14 he15 => ?_)
    refine im (go_callV (pc := 30) (Y := YX2_watchers) (Yc := YX2_asNow) (y := yX2_asNow) (n := 0) (c0 := 2) (q := (RX2, TX2, 37)) this [] [] rfl rfl k13 (mX2_asNow s2 he15) YOK_X2_asNow rfl q1981 q133 q1980 qs102 q1978 (Nat.le_of_ble_eq_true rfl) (Nat.le_of_ble_eq_true rfl) (Nat.le_of_ble_eq_true rfl) dX2_watchers_30 (st2 := []) rfl) ?_
    clear he15
    refine im (go_aload_n (pc := 33) (Y := YX2_watchers) 1 dX2_watchers_33 rfl rfl) ?_
    refine im (go_iload_n (pc := 34) (Y := YX2_watchers) 2 dX2_watchers_34 rfl rfl) ?_
    refine im (go_iload_n (pc := 35) (Y := YX2_watchers) 3 dX2_watchers_35 rfl rfl) ?_
    refine kdg (fun k16 => ?_)
    refine bpg (fun v17 he18 => ?_)
    refine im (go_callV (pc := 36) (Y := YX2_watchers) (Yc := YX2_watchersOf) (y := yX2_watchersOf) (n := 2) (c0 := 2) (q := (RX2, TX2, 37)) this [iV p0, iV p1] [] rfl rfl k16 (mX2_watchersOf s14 he18) YOK_X2_watchersOf rfl q2008 q133 q2007 qs106 q2005 (Nat.le_of_ble_eq_true rfl) (Nat.le_of_ble_eq_true rfl) (Nat.le_of_ble_eq_true rfl) dX2_watchers_36 (st2 := [iV v17]) rfl) ?_
    clear he18
    refine e2 (fun q0 q1 => ?_)
    subst q0
    subst q1
    exact go_iret (pc := 39) (Y := YX2_watchers) rfl dX2_watchers_39
  · refine im (go_aload_n (pc := 23) (Y := YX2_watchers) 1 dX2_watchers_23 rfl rfl) ?_
    refine im (go_iload_n (pc := 24) (Y := YX2_watchers) 0 dX2_watchers_24 rfl rfl) ?_
    refine kdg (fun k19 => ?_)
    refine bdg (fun s20 v21 he22 => ?_)
    refine im (go_callV (pc := 25) (Y := YX2_watchers) (Yc := YX2_no) (y := yX2_no) (n := 1) (c0 := 2) (q := (RX2, TX2, 37)) this [iV v11] [] rfl rfl k19 (mX2_no s2 he22) YOK_X2_no rfl q1767 q133 q1766 qs67 q1764 (Nat.le_of_ble_eq_true rfl) (Nat.le_of_ble_eq_true rfl) (Nat.le_of_ble_eq_true rfl) dX2_watchers_25 (st2 := [iV v21]) rfl) ?_
    clear he22
    refine e2 (fun q0 q1 => ?_)
    subst q0
    subst q1
    exact go_iret (pc := 28) (Y := YX2_watchers) rfl dX2_watchers_28
abbrev YX2_eyesOf : mY := (RX2, cX2_eyesOf, 4, (Option.some .int), 1, 21, false)
theorem YOK_X2_eyesOf : YOK yX2_eyesOf 1 := ⟨⟨by decide +kernel, by decide +kernel⟩, by decide +kernel⟩
theorem sX2_eyesOf_L4_go {G : gG} {s0 sE : St} {rE : Option V3} (s1 : St) (this : Nat) (i1 : Int32) : ∀ (n : Nat) (v2 : Int32) (v3 : Int32) (v4 : Int32), sX2_eyesOf_L4 s1 this i1 n v2 v3 = some v4 → Go G YX2_eyesOf s0 sE rE 41 [(2, iV v4)] [] s1 → Go G YX2_eyesOf s0 sE rE 4 [(0, rV (some this)), (1, iV i1), (2, iV v2), (3, iV v3)] [] s1 := by
  intro n
  induction n with
  | zero => intro v2 v3 v4 h hx; rw [sX2_eyesOf_L4] at h; cases h
  | succ n ih =>
    intro v2 v3 v4 h hx
    revert h
    rw [sX2_eyesOf_L4]
    refine im (go_iload_n (pc := 4) (Y := YX2_eyesOf) 3 dX2_eyesOf_4 rfl rfl) ?_
    refine im (go_aload_n (pc := 5) (Y := YX2_eyesOf) 0 dX2_eyesOf_5 rfl rfl) ?_
    refine flp (go_gR (pc := 6) (Y := YX2_eyesOf) fF1011 (by decide) q1648 (Or.inl rfl) dX2_eyesOf_6) (fun v5 => ?_)
    refine im (go_iconst (pc := 9) (Y := YX2_eyesOf) (v := 3) dX2_eyesOf_9 rfl) ?_
    refine flp (go_lI1 (pc := 10) (Y := YX2_eyesOf) dX2_eyesOf_10) (fun v6 => ?_)
    refine flp2 (go_icmp_ge (pc := 11) (Y := YX2_eyesOf) 41 dX2_eyesOf_11 (by decide)) ?_ ?_
    · refine e1 (fun q0 => ?_)
      subst q0
      exact go_sub [2] rfl hx
    · refine im (go_iload_n (pc := 14) (Y := YX2_eyesOf) 2 dX2_eyesOf_14 rfl rfl) ?_
      refine im (go_iload_n (pc := 15) (Y := YX2_eyesOf) 1 dX2_eyesOf_15 rfl rfl) ?_
      refine im (go_iload_n (pc := 16) (Y := YX2_eyesOf) 3 dX2_eyesOf_16 rfl rfl) ?_
      refine bpg (fun v7 he8 => ?_)
      refine im (go_callS (pc := 17) (Y := YX2_eyesOf) (Yc := YX2_hasBit) (y := yX2_hasBit) (n := 2) [iV i1, iV v3] [iV v2] rfl (mX2_hasBit s1 he8) YOK_X2_hasBit rfl q2000 q133 q1999 q1998 (Nat.le_of_ble_eq_true rfl) (Nat.le_of_ble_eq_true rfl) (Nat.le_of_ble_eq_true rfl) dX2_eyesOf_17 (st2 := [iV v7, iV v2]) rfl) ?_
      clear he8
      refine bpg (fun v9 he12 h13 => ?_)
      have hj33 : Go G YX2_eyesOf s0 sE rE 33 [(0, rV (some this)), (1, iV i1), (3, iV v3)] [iV v9, iV v2] s1 := by
        clear he12
        revert h13
        refine im (go_iadd (pc := 33) (Y := YX2_eyesOf) dX2_eyesOf_33) ?_
        refine im (go_istore_n (pc := 34) (Y := YX2_eyesOf) (ls2 := [(2, iV (v2 + v9)), (0, rV (some this)), (1, iV i1), (3, iV v3)]) dX2_eyesOf_34 rfl (Nat.le_of_ble_eq_true rfl) rfl) ?_
        refine im (go_iinc (pc := 35) (Y := YX2_eyesOf) 3 (v := (v3 + 1)) (ls2 := [(3, iV (v3 + 1)), (2, iV (v2 + v9)), (0, rV (some this)), (1, iV i1)]) dX2_eyesOf_35 rfl rfl (Nat.le_of_ble_eq_true rfl) rfl) ?_
        refine im (go_goto (pc := 38) (Y := YX2_eyesOf) 4 dX2_eyesOf_38 (by decide)) ?_
        exact fun hq => go_sub [2, 3, 1, 0] rfl (ih _ _ _ hq hx)
      clear h13
      revert he12
      refine flp2 (go_if_eq (pc := 20) (Y := YX2_eyesOf) 32 dX2_eyesOf_20 (by decide)) ?_ ?_
      · refine im (go_iconst (pc := 32) (Y := YX2_eyesOf) (v := 0) dX2_eyesOf_32 rfl) ?_
        refine e1 (fun q0 => ?_)
        subst q0
        exact go_sub [0, 1, 3] rfl hj33
      · refine im (go_aload_n (pc := 23) (Y := YX2_eyesOf) 0 dX2_eyesOf_23 rfl rfl) ?_
        refine flp (go_gR (pc := 24) (Y := YX2_eyesOf) fF1018 (by decide) q1657 (Or.inl rfl) dX2_eyesOf_24) (fun v10 => ?_)
        refine im (go_iload_n (pc := 27) (Y := YX2_eyesOf) 3 dX2_eyesOf_27 rfl rfl) ?_
        refine flp (go_lI1 (pc := 28) (Y := YX2_eyesOf) dX2_eyesOf_28) (fun v11 => ?_)
        refine im (go_goto (pc := 29) (Y := YX2_eyesOf) 33 dX2_eyesOf_29 (by decide)) ?_
        refine e1 (fun q0 => ?_)
        subst q0
        exact go_sub [0, 1, 3] rfl hj33
theorem mX2_eyesOf {G : gG} (s0 : St) {this : Nat} {p0 : Int32} {vE : Int32} (h : sX2_eyesOf s0 this p0 = some vE) : Mt G YX2_eyesOf yX2_eyesOf [rV (some this), iV p0] s0 (some (iV vE)) s0 := by
  refine go_start (ls0 := [(0, rV (some this)), (1, iV p0)]) (by decide +kernel) rfl (fun h => by cases h) (Nat.le_of_ble_eq_true rfl) rfl ?_
  revert h
  unfold sX2_eyesOf
  refine im (go_iconst (pc := 0) (Y := YX2_eyesOf) (v := 0) dX2_eyesOf_0 rfl) ?_
  refine im (go_istore_n (pc := 1) (Y := YX2_eyesOf) (ls2 := [(2, iV 0), (0, rV (some this)), (1, iV p0)]) dX2_eyesOf_1 rfl (Nat.le_of_ble_eq_true rfl) rfl) ?_
  refine im (go_iconst (pc := 2) (Y := YX2_eyesOf) (v := 0) dX2_eyesOf_2 rfl) ?_
  refine im (go_istore_n (pc := 3) (Y := YX2_eyesOf) (ls2 := [(3, iV 0), (2, iV 0), (0, rV (some this)), (1, iV p0)]) dX2_eyesOf_3 rfl (Nat.le_of_ble_eq_true rfl) rfl) ?_
  refine bpg (fun v14 he15 h16 => ?_)
  refine go_sub [2, 3, 1, 0] rfl (sX2_eyesOf_L4_go s0 this p0 FU _ _ _ he15 ?_)
  clear he15
  revert h16
  refine im (go_iload_n (pc := 41) (Y := YX2_eyesOf) 0 dX2_eyesOf_41 rfl rfl) ?_
  refine e1 (fun q0 => ?_)
  subst q0
  exact go_iret (pc := 42) (Y := YX2_eyesOf) rfl dX2_eyesOf_42
abbrev YX2_eyes : mY := (RX2, cX2_eyes, 4, (Option.some .int), 3, 68, false)
theorem YOK_X2_eyes : YOK yX2_eyes 2 := ⟨⟨by decide +kernel, by decide +kernel⟩, by decide +kernel⟩
theorem mX2_eyes {G : gG} (s0 : St) {this : Nat} {p0 : Int32} {p1 : Int32} {sE : St} {vE : Int32} (h : sX2_eyes s0 this p0 p1 = some (sE, vE)) : Mt G YX2_eyes yX2_eyes [rV (some this), iV p0, iV p1] s0 (some (iV vE)) sE := by
  refine go_start (ls0 := [(0, rV (some this)), (1, iV p0), (2, iV p1)]) (by decide +kernel) rfl (fun h => by cases h) (Nat.le_of_ble_eq_true rfl) rfl ?_
  revert h
  unfold sX2_eyes
  refine im (go_aload_n (pc := 0) (Y := YX2_eyes) 0 dX2_eyes_0 rfl rfl) ?_
  refine kdg (fun k1 => ?_)
  refine bpg (fun s2 he3 => ?_)
  refine im (go_callV (pc := 1) (Y := YX2_eyes) (Yc := YX2_good) (y := yX2_good) (n := 0) (c0 := 2) (q := (RX2, TX2, 37)) this [] [] rfl rfl k1 (mX2_good s0 he3) YOK_X2_good rfl q1760 q133 q1759 qs66 q1757 (Nat.le_of_ble_eq_true rfl) (Nat.le_of_ble_eq_true rfl) (Nat.le_of_ble_eq_true rfl) dX2_eyes_1 (st2 := []) rfl) ?_
  clear he3
  refine im (go_aload_n (pc := 4) (Y := YX2_eyes) 0 dX2_eyes_4 rfl rfl) ?_
  refine im (go_aload_n (pc := 5) (Y := YX2_eyes) 0 dX2_eyes_5 rfl rfl) ?_
  refine im (go_iload_n (pc := 6) (Y := YX2_eyes) 1 dX2_eyes_6 rfl rfl) ?_
  refine kdg (fun k4 => ?_)
  refine bpg (fun v5 he6 => ?_)
  refine im (go_callV (pc := 7) (Y := YX2_eyes) (Yc := YX2_isPlace) (y := yX2_isPlace) (n := 1) (c0 := 2) (q := (RX2, TX2, 37)) this [iV p0] [rV (some this)] rfl rfl k4 (mX2_isPlace s2 he6) YOK_X2_isPlace rfl q1993 q133 q1992 qs104 q1990 (Nat.le_of_ble_eq_true rfl) (Nat.le_of_ble_eq_true rfl) (Nat.le_of_ble_eq_true rfl) dX2_eyes_7 (st2 := [iV v5, rV (some this)]) rfl) ?_
  clear he6
  refine im (go_aload_n (pc := 10) (Y := YX2_eyes) 0 dX2_eyes_10 rfl rfl) ?_
  refine im (go_iload_n (pc := 11) (Y := YX2_eyes) 2 dX2_eyes_11 rfl rfl) ?_
  refine kdg (fun k7 => ?_)
  refine bpg (fun v8 he9 => ?_)
  refine im (go_callV (pc := 12) (Y := YX2_eyes) (Yc := YX2_isMinute) (y := yX2_isMinute) (n := 1) (c0 := 2) (q := (RX2, TX2, 37)) this [iV p1] [iV v5, rV (some this)] rfl rfl k7 (mX2_isMinute s2 he9) YOK_X2_isMinute rfl q1973 q133 q1972 qs100 q1970 (Nat.le_of_ble_eq_true rfl) (Nat.le_of_ble_eq_true rfl) (Nat.le_of_ble_eq_true rfl) dX2_eyes_12 (st2 := [iV v8, iV v5, rV (some this)]) rfl) ?_
  clear he9
  refine kdg (fun k10 => ?_)
  refine bpg (fun v11 he12 => ?_)
  refine im (go_callV (pc := 15) (Y := YX2_eyes) (Yc := YX2_why) (y := yX2_why) (n := 2) (c0 := 2) (q := (RX2, TX2, 37)) this [iV v5, iV v8] [] rfl rfl k10 (mX2_why s2 he12) YOK_X2_why rfl q1977 q133 q1976 qs101 q1974 (Nat.le_of_ble_eq_true rfl) (Nat.le_of_ble_eq_true rfl) (Nat.le_of_ble_eq_true rfl) dX2_eyes_15 (st2 := [iV v11]) rfl) ?_
  clear he12
  refine im (go_istore_n (pc := 18) (Y := YX2_eyes) (ls2 := [(3, iV v11), (0, rV (some this)), (1, iV p0), (2, iV p1)]) dX2_eyes_18 rfl (Nat.le_of_ble_eq_true rfl) rfl) ?_
  refine im (go_iload_n (pc := 19) (Y := YX2_eyes) 0 dX2_eyes_19 rfl rfl) ?_
  refine flp2 (go_if_eq (pc := 20) (Y := YX2_eyes) 29 dX2_eyes_20 (by decide)) ?_ ?_
  · refine im (go_aload_n (pc := 29) (Y := YX2_eyes) 1 dX2_eyes_29 rfl rfl) ?_
    refine kdg (fun k13 => ?_)
    refine bpg (fun s14 he15 => ?_)
    refine im (go_callV (pc := 30) (Y := YX2_eyes) (Yc := YX2_asNow) (y := yX2_asNow) (n := 0) (c0 := 2) (q := (RX2, TX2, 37)) this [] [] rfl rfl k13 (mX2_asNow s2 he15) YOK_X2_asNow rfl q1981 q133 q1980 qs102 q1978 (Nat.le_of_ble_eq_true rfl) (Nat.le_of_ble_eq_true rfl) (Nat.le_of_ble_eq_true rfl) dX2_eyes_30 (st2 := []) rfl) ?_
    clear he15
    refine im (go_aload_n (pc := 33) (Y := YX2_eyes) 1 dX2_eyes_33 rfl rfl) ?_
    refine im (go_aload_n (pc := 34) (Y := YX2_eyes) 1 dX2_eyes_34 rfl rfl) ?_
    refine im (go_iload_n (pc := 35) (Y := YX2_eyes) 2 dX2_eyes_35 rfl rfl) ?_
    refine im (go_iload_n (pc := 36) (Y := YX2_eyes) 3 dX2_eyes_36 rfl rfl) ?_
    refine kdg (fun k16 => ?_)
    refine bpg (fun v17 he18 => ?_)
    refine im (go_callV (pc := 37) (Y := YX2_eyes) (Yc := YX2_watchersOf) (y := yX2_watchersOf) (n := 2) (c0 := 2) (q := (RX2, TX2, 37)) this [iV p0, iV p1] [rV (some this)] rfl rfl k16 (mX2_watchersOf s14 he18) YOK_X2_watchersOf rfl q2008 q133 q2007 qs106 q2005 (Nat.le_of_ble_eq_true rfl) (Nat.le_of_ble_eq_true rfl) (Nat.le_of_ble_eq_true rfl) dX2_eyes_37 (st2 := [iV v17, rV (some this)]) rfl) ?_
    clear he18
    refine kdg (fun k19 => ?_)
    refine bpg (fun v20 he21 => ?_)
    refine im (go_callV (pc := 40) (Y := YX2_eyes) (Yc := YX2_eyesOf) (y := yX2_eyesOf) (n := 1) (c0 := 2) (q := (RX2, TX2, 37)) this [iV v17] [] rfl rfl k19 (mX2_eyesOf s14 he21) YOK_X2_eyesOf rfl q2016 q133 q2015 qs107 q2013 (Nat.le_of_ble_eq_true rfl) (Nat.le_of_ble_eq_true rfl) (Nat.le_of_ble_eq_true rfl) dX2_eyes_40 (st2 := [iV v20]) rfl) ?_
    clear he21
    refine e2 (fun q0 q1 => ?_)
    subst q0
    subst q1
    exact go_iret (pc := 43) (Y := YX2_eyes) rfl dX2_eyes_43
  · refine im (go_aload_n (pc := 23) (Y := YX2_eyes) 1 dX2_eyes_23 rfl rfl) ?_
    refine im (go_iload_n (pc := 24) (Y := YX2_eyes) 0 dX2_eyes_24 rfl rfl) ?_
    refine kdg (fun k22 => ?_)
    refine bdg (fun s23 v24 he25 => ?_)
    refine im (go_callV (pc := 25) (Y := YX2_eyes) (Yc := YX2_no) (y := yX2_no) (n := 1) (c0 := 2) (q := (RX2, TX2, 37)) this [iV v11] [] rfl rfl k22 (mX2_no s2 he25) YOK_X2_no rfl q1767 q133 q1766 qs67 q1764 (Nat.le_of_ble_eq_true rfl) (Nat.le_of_ble_eq_true rfl) (Nat.le_of_ble_eq_true rfl) dX2_eyes_25 (st2 := [iV v24]) rfl) ?_
    clear he25
    refine e2 (fun q0 q1 => ?_)
    subst q0
    subst q1
    exact go_iret (pc := 28) (Y := YX2_eyes) rfl dX2_eyes_28
abbrev YX2_hidden : mY := (RX2, cX2_hidden, 5, (Option.some .int), 3, 68, false)
theorem YOK_X2_hidden : YOK yX2_hidden 1 := ⟨⟨by decide +kernel, by decide +kernel⟩, by decide +kernel⟩
theorem sX2_hidden_L37_go {G : gG} {s0 sE : St} {rE : Option V3} (s14 : St) (this : Nat) (i1 : Int32) : ∀ (n : Nat) (v15 : Int32) (v16 : Int32) (v17 : Int32), sX2_hidden_L37 s14 this i1 n v15 v16 = some v17 → Go G YX2_hidden s0 sE rE 79 [(3, iV v17)] [] s14 → Go G YX2_hidden s0 sE rE 37 [(0, rV (some this)), (1, iV i1), (3, iV v15), (4, iV v16)] [] s14 := by
  intro n
  induction n with
  | zero => intro v15 v16 v17 h hx; rw [sX2_hidden_L37] at h; cases h
  | succ n ih =>
    intro v15 v16 v17 h hx
    revert h
    rw [sX2_hidden_L37]
    refine im (go_iload (pc := 37) (Y := YX2_hidden) 3 dX2_hidden_37 rfl) ?_
    refine im (go_aload_n (pc := 39) (Y := YX2_hidden) 0 dX2_hidden_39 rfl rfl) ?_
    refine flp (go_gR (pc := 40) (Y := YX2_hidden) fF1011 (by decide) q1648 (Or.inl rfl) dX2_hidden_40) (fun v18 => ?_)
    refine im (go_iconst (pc := 43) (Y := YX2_hidden) (v := 1) dX2_hidden_43 rfl) ?_
    refine flp (go_lI1 (pc := 44) (Y := YX2_hidden) dX2_hidden_44) (fun v19 => ?_)
    refine flp2 (go_icmp_ge (pc := 45) (Y := YX2_hidden) 79 dX2_hidden_45 (by decide)) ?_ ?_
    · refine e1 (fun q0 => ?_)
      subst q0
      exact go_sub [2] rfl hx
    · refine im (go_iload_n (pc := 48) (Y := YX2_hidden) 2 dX2_hidden_48 rfl rfl) ?_
      refine im (go_aload_n (pc := 49) (Y := YX2_hidden) 0 dX2_hidden_49 rfl rfl) ?_
      refine im (go_aload_n (pc := 50) (Y := YX2_hidden) 0 dX2_hidden_50 rfl rfl) ?_
      refine im (go_iload (pc := 51) (Y := YX2_hidden) 3 dX2_hidden_51 rfl) ?_
      refine im (go_iload_n (pc := 53) (Y := YX2_hidden) 1 dX2_hidden_53 rfl rfl) ?_
      refine kdg (fun k20 => ?_)
      refine bpg (fun v21 he22 => ?_)
      refine im (go_callV (pc := 54) (Y := YX2_hidden) (Yc := YX2_watchersOf) (y := yX2_watchersOf) (n := 2) (c0 := 2) (q := (RX2, TX2, 37)) this [iV v16, iV i1] [rV (some this), iV v15] rfl rfl k20 (mX2_watchersOf s14 he22) YOK_X2_watchersOf rfl q2008 q133 q2007 qs106 q2005 (Nat.le_of_ble_eq_true rfl) (Nat.le_of_ble_eq_true rfl) (Nat.le_of_ble_eq_true rfl) dX2_hidden_54 (st2 := [iV v21, rV (some this), iV v15]) rfl) ?_
      clear he22
      refine kdg (fun k23 => ?_)
      refine bpg (fun v24 he25 => ?_)
      refine im (go_callV (pc := 57) (Y := YX2_hidden) (Yc := YX2_eyesOf) (y := yX2_eyesOf) (n := 1) (c0 := 2) (q := (RX2, TX2, 37)) this [iV v21] [iV v15] rfl rfl k23 (mX2_eyesOf s14 he25) YOK_X2_eyesOf rfl q2016 q133 q2015 qs107 q2013 (Nat.le_of_ble_eq_true rfl) (Nat.le_of_ble_eq_true rfl) (Nat.le_of_ble_eq_true rfl) dX2_hidden_57 (st2 := [iV v24, iV v15]) rfl) ?_
      clear he25
      refine bpg (fun v26 he27 h28 => ?_)
      have hj71 : Go G YX2_hidden s0 sE rE 71 [(0, rV (some this)), (1, iV i1), (4, iV v16)] [iV v26, iV v15] s14 := by
        clear he27
        revert h28
        refine im (go_ior (pc := 71) (Y := YX2_hidden) dX2_hidden_71) ?_
        refine im (go_istore_n (pc := 72) (Y := YX2_hidden) (ls2 := [(3, iV (v15 ||| v26)), (0, rV (some this)), (1, iV i1), (4, iV v16)]) dX2_hidden_72 rfl (Nat.le_of_ble_eq_true rfl) rfl) ?_
        refine im (go_iinc (pc := 73) (Y := YX2_hidden) 3 (v := (v16 + 1)) (ls2 := [(4, iV (v16 + 1)), (3, iV (v15 ||| v26)), (0, rV (some this)), (1, iV i1)]) dX2_hidden_73 rfl rfl (Nat.le_of_ble_eq_true rfl) rfl) ?_
        refine im (go_goto (pc := 76) (Y := YX2_hidden) 37 dX2_hidden_76 (by decide)) ?_
        exact fun hq => go_sub [2, 3, 1, 0] rfl (ih _ _ _ hq hx)
      clear h28
      revert he27
      refine flp2 (go_if_ne (pc := 60) (Y := YX2_hidden) 70 dX2_hidden_60 (by decide)) ?_ ?_
      · refine im (go_iconst (pc := 63) (Y := YX2_hidden) (v := 1) dX2_hidden_63 rfl) ?_
        refine im (go_iload (pc := 64) (Y := YX2_hidden) 3 dX2_hidden_64 rfl) ?_
        refine im (go_ishl (pc := 66) (Y := YX2_hidden) dX2_hidden_66) ?_
        refine im (go_goto (pc := 67) (Y := YX2_hidden) 71 dX2_hidden_67 (by decide)) ?_
        refine e1 (fun q0 => ?_)
        subst q0
        exact go_sub [0, 1, 3] rfl hj71
      · refine im (go_iconst (pc := 70) (Y := YX2_hidden) (v := 0) dX2_hidden_70 rfl) ?_
        refine e1 (fun q0 => ?_)
        subst q0
        exact go_sub [0, 1, 3] rfl hj71
theorem mX2_hidden {G : gG} (s0 : St) {this : Nat} {p0 : Int32} {sE : St} {vE : Int32} (h : sX2_hidden s0 this p0 = some (sE, vE)) : Mt G YX2_hidden yX2_hidden [rV (some this), iV p0] s0 (some (iV vE)) sE := by
  refine go_start (ls0 := [(0, rV (some this)), (1, iV p0)]) (by decide +kernel) rfl (fun h => by cases h) (Nat.le_of_ble_eq_true rfl) rfl ?_
  revert h
  unfold sX2_hidden
  refine im (go_aload_n (pc := 0) (Y := YX2_hidden) 0 dX2_hidden_0 rfl rfl) ?_
  refine kdg (fun k1 => ?_)
  refine bpg (fun s2 he3 => ?_)
  refine im (go_callV (pc := 1) (Y := YX2_hidden) (Yc := YX2_good) (y := yX2_good) (n := 0) (c0 := 2) (q := (RX2, TX2, 37)) this [] [] rfl rfl k1 (mX2_good s0 he3) YOK_X2_good rfl q1760 q133 q1759 qs66 q1757 (Nat.le_of_ble_eq_true rfl) (Nat.le_of_ble_eq_true rfl) (Nat.le_of_ble_eq_true rfl) dX2_hidden_1 (st2 := []) rfl) ?_
  clear he3
  refine im (go_aload_n (pc := 4) (Y := YX2_hidden) 0 dX2_hidden_4 rfl rfl) ?_
  refine im (go_aload_n (pc := 5) (Y := YX2_hidden) 0 dX2_hidden_5 rfl rfl) ?_
  refine flp (go_gI (pc := 6) (Y := YX2_hidden) fF31 (by decide) q1647 (Or.inl rfl) dX2_hidden_6) (fun v4 => ?_)
  refine im (go_aload_n (pc := 9) (Y := YX2_hidden) 0 dX2_hidden_9 rfl rfl) ?_
  refine im (go_iload_n (pc := 10) (Y := YX2_hidden) 1 dX2_hidden_10 rfl rfl) ?_
  refine kdg (fun k5 => ?_)
  refine bpg (fun v6 he7 => ?_)
  refine im (go_callV (pc := 11) (Y := YX2_hidden) (Yc := YX2_isMinute) (y := yX2_isMinute) (n := 1) (c0 := 2) (q := (RX2, TX2, 37)) this [iV p0] [iV v4, rV (some this)] rfl rfl k5 (mX2_isMinute s2 he7) YOK_X2_isMinute rfl q1973 q133 q1972 qs100 q1970 (Nat.le_of_ble_eq_true rfl) (Nat.le_of_ble_eq_true rfl) (Nat.le_of_ble_eq_true rfl) dX2_hidden_11 (st2 := [iV v6, iV v4, rV (some this)]) rfl) ?_
  clear he7
  refine kdg (fun k8 => ?_)
  refine bpg (fun v9 he10 => ?_)
  refine im (go_callV (pc := 14) (Y := YX2_hidden) (Yc := YX2_why) (y := yX2_why) (n := 2) (c0 := 2) (q := (RX2, TX2, 37)) this [iV v4, iV v6] [] rfl rfl k8 (mX2_why s2 he10) YOK_X2_why rfl q1977 q133 q1976 qs101 q1974 (Nat.le_of_ble_eq_true rfl) (Nat.le_of_ble_eq_true rfl) (Nat.le_of_ble_eq_true rfl) dX2_hidden_14 (st2 := [iV v9]) rfl) ?_
  clear he10
  refine im (go_istore_n (pc := 17) (Y := YX2_hidden) (ls2 := [(2, iV v9), (0, rV (some this)), (1, iV p0)]) dX2_hidden_17 rfl (Nat.le_of_ble_eq_true rfl) rfl) ?_
  refine im (go_iload_n (pc := 18) (Y := YX2_hidden) 0 dX2_hidden_18 rfl rfl) ?_
  refine flp2 (go_if_eq (pc := 19) (Y := YX2_hidden) 28 dX2_hidden_19 (by decide)) ?_ ?_
  · refine im (go_aload_n (pc := 28) (Y := YX2_hidden) 1 dX2_hidden_28 rfl rfl) ?_
    refine kdg (fun k11 => ?_)
    refine bpg (fun s12 he13 => ?_)
    refine im (go_callV (pc := 29) (Y := YX2_hidden) (Yc := YX2_asNow) (y := yX2_asNow) (n := 0) (c0 := 2) (q := (RX2, TX2, 37)) this [] [] rfl rfl k11 (mX2_asNow s2 he13) YOK_X2_asNow rfl q1981 q133 q1980 qs102 q1978 (Nat.le_of_ble_eq_true rfl) (Nat.le_of_ble_eq_true rfl) (Nat.le_of_ble_eq_true rfl) dX2_hidden_29 (st2 := []) rfl) ?_
    clear he13
    refine im (go_iconst (pc := 32) (Y := YX2_hidden) (v := 0) dX2_hidden_32 rfl) ?_
    refine im (go_istore_n (pc := 33) (Y := YX2_hidden) (ls2 := [(3, iV 0), (2, iV v9), (0, rV (some this)), (1, iV p0)]) dX2_hidden_33 rfl (Nat.le_of_ble_eq_true rfl) rfl) ?_
    refine im (go_iconst (pc := 34) (Y := YX2_hidden) (v := 0) dX2_hidden_34 rfl) ?_
    refine im (go_istore (pc := 35) (Y := YX2_hidden) (ls2 := [(4, iV 0), (3, iV 0), (2, iV v9), (0, rV (some this)), (1, iV p0)]) dX2_hidden_35 (Nat.le_of_ble_eq_true rfl) rfl) ?_
    refine bpg (fun v29 he30 h31 => ?_)
    refine go_sub [3, 4, 1, 0] rfl (sX2_hidden_L37_go s12 this p0 FU _ _ _ he30 ?_)
    clear he30
    revert h31
    refine im (go_iload_n (pc := 79) (Y := YX2_hidden) 0 dX2_hidden_79 rfl rfl) ?_
    refine e2 (fun q0 q1 => ?_)
    subst q0
    subst q1
    exact go_iret (pc := 80) (Y := YX2_hidden) rfl dX2_hidden_80
  · refine im (go_aload_n (pc := 22) (Y := YX2_hidden) 1 dX2_hidden_22 rfl rfl) ?_
    refine im (go_iload_n (pc := 23) (Y := YX2_hidden) 0 dX2_hidden_23 rfl rfl) ?_
    refine kdg (fun k32 => ?_)
    refine bdg (fun s33 v34 he35 => ?_)
    refine im (go_callV (pc := 24) (Y := YX2_hidden) (Yc := YX2_no) (y := yX2_no) (n := 1) (c0 := 2) (q := (RX2, TX2, 37)) this [iV v9] [] rfl rfl k32 (mX2_no s2 he35) YOK_X2_no rfl q1767 q133 q1766 qs67 q1764 (Nat.le_of_ble_eq_true rfl) (Nat.le_of_ble_eq_true rfl) (Nat.le_of_ble_eq_true rfl) dX2_hidden_24 (st2 := [iV v34]) rfl) ?_
    clear he35
    refine e2 (fun q0 q1 => ?_)
    subst q0
    subst q1
    exact go_iret (pc := 27) (Y := YX2_hidden) rfl dX2_hidden_27
abbrev YX2_allEyes : mY := (RX2, cX2_allEyes, 4, (Option.some .int), 3, 68, false)
theorem YOK_X2_allEyes : YOK yX2_allEyes 1 := ⟨⟨by decide +kernel, by decide +kernel⟩, by decide +kernel⟩
theorem sX2_allEyes_L4_go {G : gG} {s0 sE : St} {rE : Option V3} (s1 : St) (this : Nat) (i1 : Int32) : ∀ (n : Nat) (v2 : Int32) (v3 : Int32) (v4 : Int32), sX2_allEyes_L4 s1 this i1 n v2 v3 = some v4 → Go G YX2_allEyes s0 sE rE 29 [(2, iV v4)] [] s1 → Go G YX2_allEyes s0 sE rE 4 [(0, rV (some this)), (1, iV i1), (2, iV v2), (3, iV v3)] [] s1 := by
  intro n
  induction n with
  | zero => intro v2 v3 v4 h hx; rw [sX2_allEyes_L4] at h; cases h
  | succ n ih =>
    intro v2 v3 v4 h hx
    revert h
    rw [sX2_allEyes_L4]
    refine im (go_iload_n (pc := 4) (Y := YX2_allEyes) 3 dX2_allEyes_4 rfl rfl) ?_
    refine im (go_bipush (pc := 5) (Y := YX2_allEyes) (v := 59) dX2_allEyes_5 rfl) ?_
    refine flp2 (go_icmp_gt (pc := 7) (Y := YX2_allEyes) 29 dX2_allEyes_7 (by decide)) ?_ ?_
    · refine e1 (fun q0 => ?_)
      subst q0
      exact go_sub [2] rfl hx
    · refine im (go_iload_n (pc := 10) (Y := YX2_allEyes) 2 dX2_allEyes_10 rfl rfl) ?_
      refine im (go_aload_n (pc := 11) (Y := YX2_allEyes) 0 dX2_allEyes_11 rfl rfl) ?_
      refine im (go_aload_n (pc := 12) (Y := YX2_allEyes) 0 dX2_allEyes_12 rfl rfl) ?_
      refine im (go_iload_n (pc := 13) (Y := YX2_allEyes) 1 dX2_allEyes_13 rfl rfl) ?_
      refine im (go_iload_n (pc := 14) (Y := YX2_allEyes) 3 dX2_allEyes_14 rfl rfl) ?_
      refine kdg (fun k5 => ?_)
      refine bpg (fun v6 he7 => ?_)
      refine im (go_callV (pc := 15) (Y := YX2_allEyes) (Yc := YX2_watchersOf) (y := yX2_watchersOf) (n := 2) (c0 := 2) (q := (RX2, TX2, 37)) this [iV i1, iV v3] [rV (some this), iV v2] rfl rfl k5 (mX2_watchersOf s1 he7) YOK_X2_watchersOf rfl q2008 q133 q2007 qs106 q2005 (Nat.le_of_ble_eq_true rfl) (Nat.le_of_ble_eq_true rfl) (Nat.le_of_ble_eq_true rfl) dX2_allEyes_15 (st2 := [iV v6, rV (some this), iV v2]) rfl) ?_
      clear he7
      refine kdg (fun k8 => ?_)
      refine bpg (fun v9 he10 => ?_)
      refine im (go_callV (pc := 18) (Y := YX2_allEyes) (Yc := YX2_eyesOf) (y := yX2_eyesOf) (n := 1) (c0 := 2) (q := (RX2, TX2, 37)) this [iV v6] [iV v2] rfl rfl k8 (mX2_eyesOf s1 he10) YOK_X2_eyesOf rfl q2016 q133 q2015 qs107 q2013 (Nat.le_of_ble_eq_true rfl) (Nat.le_of_ble_eq_true rfl) (Nat.le_of_ble_eq_true rfl) dX2_allEyes_18 (st2 := [iV v9, iV v2]) rfl) ?_
      clear he10
      refine im (go_iadd (pc := 21) (Y := YX2_allEyes) dX2_allEyes_21) ?_
      refine im (go_istore_n (pc := 22) (Y := YX2_allEyes) (ls2 := [(2, iV (v2 + v9)), (0, rV (some this)), (1, iV i1), (3, iV v3)]) dX2_allEyes_22 rfl (Nat.le_of_ble_eq_true rfl) rfl) ?_
      refine im (go_iinc (pc := 23) (Y := YX2_allEyes) 3 (v := (v3 + 1)) (ls2 := [(3, iV (v3 + 1)), (2, iV (v2 + v9)), (0, rV (some this)), (1, iV i1)]) dX2_allEyes_23 rfl rfl (Nat.le_of_ble_eq_true rfl) rfl) ?_
      refine im (go_goto (pc := 26) (Y := YX2_allEyes) 4 dX2_allEyes_26 (by decide)) ?_
      exact fun hq => go_sub [2, 3, 1, 0] rfl (ih _ _ _ hq hx)
theorem mX2_allEyes {G : gG} (s0 : St) {this : Nat} {p0 : Int32} {vE : Int32} (h : sX2_allEyes s0 this p0 = some vE) : Mt G YX2_allEyes yX2_allEyes [rV (some this), iV p0] s0 (some (iV vE)) s0 := by
  refine go_start (ls0 := [(0, rV (some this)), (1, iV p0)]) (by decide +kernel) rfl (fun h => by cases h) (Nat.le_of_ble_eq_true rfl) rfl ?_
  revert h
  unfold sX2_allEyes
  refine im (go_iconst (pc := 0) (Y := YX2_allEyes) (v := 0) dX2_allEyes_0 rfl) ?_
  refine im (go_istore_n (pc := 1) (Y := YX2_allEyes) (ls2 := [(2, iV 0), (0, rV (some this)), (1, iV p0)]) dX2_allEyes_1 rfl (Nat.le_of_ble_eq_true rfl) rfl) ?_
  refine im (go_iconst (pc := 2) (Y := YX2_allEyes) (v := 0) dX2_allEyes_2 rfl) ?_
  refine im (go_istore_n (pc := 3) (Y := YX2_allEyes) (ls2 := [(3, iV 0), (2, iV 0), (0, rV (some this)), (1, iV p0)]) dX2_allEyes_3 rfl (Nat.le_of_ble_eq_true rfl) rfl) ?_
  refine bpg (fun v11 he12 h13 => ?_)
  refine go_sub [2, 3, 1, 0] rfl (sX2_allEyes_L4_go s0 this p0 FU _ _ _ he12 ?_)
  clear he12
  revert h13
  refine im (go_iload_n (pc := 29) (Y := YX2_allEyes) 0 dX2_allEyes_29 rfl rfl) ?_
  refine e1 (fun q0 => ?_)
  subst q0
  exact go_iret (pc := 30) (Y := YX2_allEyes) rfl dX2_allEyes_30
abbrev YX2_square : mY := (RX2, cX2_square, 5, (Option.some .int), 4, 91, false)
theorem YOK_X2_square : YOK yX2_square 0 := ⟨⟨by decide +kernel, by decide +kernel⟩, by decide +kernel⟩
theorem sX2_square_L31_go {G : gG} {s0 sE : St} {rE : Option V3} (s15 : St) (this : Nat) : ∀ (n : Nat) (v16 : Int32) (v17 : Int32) (v18 : Int32) (v19 : Int32), sX2_square_L31 s15 this n v16 v17 v18 = some v19 → Go G YX2_square s0 sE rE 68 [(1, iV v19)] [] s15 → Go G YX2_square s0 sE rE 31 [(0, rV (some this)), (1, iV v16), (2, iV v17), (3, iV v18)] [] s15 := by
  intro n
  induction n with
  | zero => intro v16 v17 v18 v19 h hx; rw [sX2_square_L31] at h; cases h
  | succ n ih =>
    intro v16 v17 v18 v19 h hx
    revert h
    rw [sX2_square_L31]
    refine im (go_iload_n (pc := 31) (Y := YX2_square) 3 dX2_square_31 rfl rfl) ?_
    refine im (go_aload_n (pc := 32) (Y := YX2_square) 0 dX2_square_32 rfl rfl) ?_
    refine flp (go_gR (pc := 33) (Y := YX2_square) fF1011 (by decide) q1648 (Or.inl rfl) dX2_square_33) (fun v20 => ?_)
    refine im (go_iconst (pc := 36) (Y := YX2_square) (v := 1) dX2_square_36 rfl) ?_
    refine flp (go_lI1 (pc := 37) (Y := YX2_square) dX2_square_37) (fun v21 => ?_)
    refine flp2 (go_icmp_ge (pc := 38) (Y := YX2_square) 68 dX2_square_38 (by decide)) ?_ ?_
    · refine e1 (fun q0 => ?_)
      subst q0
      exact go_sub [1] rfl hx
    · refine im (go_aload_n (pc := 41) (Y := YX2_square) 0 dX2_square_41 rfl rfl) ?_
      refine im (go_iload_n (pc := 42) (Y := YX2_square) 3 dX2_square_42 rfl rfl) ?_
      refine kdg (fun k22 => ?_)
      refine bpg (fun v23 he24 => ?_)
      refine im (go_callV (pc := 43) (Y := YX2_square) (Yc := YX2_allEyes) (y := yX2_allEyes) (n := 1) (c0 := 2) (q := (RX2, TX2, 37)) this [iV v18] [] rfl rfl k22 (mX2_allEyes s15 he24) YOK_X2_allEyes rfl q2028 q133 q2027 qs108 q2025 (Nat.le_of_ble_eq_true rfl) (Nat.le_of_ble_eq_true rfl) (Nat.le_of_ble_eq_true rfl) dX2_square_43 (st2 := [iV v23]) rfl) ?_
      clear he24
      refine im (go_istore (pc := 46) (Y := YX2_square) (ls2 := [(4, iV v23), (0, rV (some this)), (1, iV v16), (2, iV v17), (3, iV v18)]) dX2_square_46 (Nat.le_of_ble_eq_true rfl) rfl) ?_
      refine im (go_iload (pc := 48) (Y := YX2_square) 0 dX2_square_48 rfl) ?_
      refine im (go_iload_n (pc := 50) (Y := YX2_square) 3 dX2_square_50 rfl rfl) ?_
      refine b2g (fun v25 v26 he27 h28 => ?_)
      have hj62 : Go G YX2_square s0 sE rE 62 [(0, rV (some this)), (1, iV v25), (2, iV v26), (3, iV v18)] [] s15 := by
        clear he27
        revert h28
        refine im (go_iinc (pc := 62) (Y := YX2_square) 3 (v := (v18 + 1)) (ls2 := [(3, iV (v18 + 1)), (0, rV (some this)), (1, iV v25), (2, iV v26)]) dX2_square_62 rfl rfl (Nat.le_of_ble_eq_true rfl) rfl) ?_
        refine im (go_goto (pc := 65) (Y := YX2_square) 31 dX2_square_65 (by decide)) ?_
        exact fun hq => go_sub [1, 2, 3, 0] rfl (ih _ _ _ _ hq hx)
      clear h28
      revert he27
      refine flp2 (go_icmp_gt (pc := 51) (Y := YX2_square) 57 dX2_square_51 (by decide)) ?_ ?_
      · refine im (go_iload_n (pc := 57) (Y := YX2_square) 4 dX2_square_57 rfl rfl) ?_
        refine im (go_istore_n (pc := 58) (Y := YX2_square) (ls2 := [(1, iV v18), (4, iV v23), (0, rV (some this)), (2, iV v17), (3, iV v18)]) dX2_square_58 rfl (Nat.le_of_ble_eq_true rfl) rfl) ?_
        refine im (go_iload (pc := 59) (Y := YX2_square) 1 dX2_square_59 rfl) ?_
        refine im (go_istore_n (pc := 61) (Y := YX2_square) (ls2 := [(2, iV v23), (1, iV v18), (4, iV v23), (0, rV (some this)), (3, iV v18)]) dX2_square_61 rfl (Nat.le_of_ble_eq_true rfl) rfl) ?_
        refine e2 (fun q0 q1 => ?_)
        subst q0
        subst q1
        exact go_sub [3, 1, 0, 4] rfl hj62
      · refine im (go_goto (pc := 54) (Y := YX2_square) 62 dX2_square_54 (by decide)) ?_
        refine e2 (fun q0 q1 => ?_)
        subst q0
        subst q1
        exact go_sub [1, 2, 3, 4] rfl hj62
theorem mX2_square {G : gG} (s0 : St) {this : Nat} {sE : St} {vE : Int32} (h : sX2_square s0 this = some (sE, vE)) : Mt G YX2_square yX2_square [rV (some this)] s0 (some (iV vE)) sE := by
  refine go_start (ls0 := [(0, rV (some this))]) (by decide +kernel) rfl (fun h => by cases h) (Nat.le_of_ble_eq_true rfl) rfl ?_
  revert h
  unfold sX2_square
  refine im (go_aload_n (pc := 0) (Y := YX2_square) 0 dX2_square_0 rfl rfl) ?_
  refine kdg (fun k1 => ?_)
  refine bpg (fun s2 he3 => ?_)
  refine im (go_callV (pc := 1) (Y := YX2_square) (Yc := YX2_good) (y := yX2_good) (n := 0) (c0 := 2) (q := (RX2, TX2, 37)) this [] [] rfl rfl k1 (mX2_good s0 he3) YOK_X2_good rfl q1760 q133 q1759 qs66 q1757 (Nat.le_of_ble_eq_true rfl) (Nat.le_of_ble_eq_true rfl) (Nat.le_of_ble_eq_true rfl) dX2_square_1 (st2 := []) rfl) ?_
  clear he3
  refine im (go_aload_n (pc := 4) (Y := YX2_square) 0 dX2_square_4 rfl rfl) ?_
  refine flp (go_gI (pc := 5) (Y := YX2_square) fF31 (by decide) q1647 (Or.inl rfl) dX2_square_5) (fun v4 => ?_)
  refine flp2 (go_if_ne (pc := 8) (Y := YX2_square) 17 dX2_square_8 (by decide)) ?_ ?_
  · refine im (go_aload_n (pc := 11) (Y := YX2_square) 0 dX2_square_11 rfl rfl) ?_
    refine im (go_iconst (pc := 12) (Y := YX2_square) (v := 1) dX2_square_12 rfl) ?_
    refine kdg (fun k5 => ?_)
    refine bdg (fun s6 v7 he8 => ?_)
    refine im (go_callV (pc := 13) (Y := YX2_square) (Yc := YX2_no) (y := yX2_no) (n := 1) (c0 := 2) (q := (RX2, TX2, 37)) this [iV 1] [] rfl rfl k5 (mX2_no s2 he8) YOK_X2_no rfl q1767 q133 q1766 qs67 q1764 (Nat.le_of_ble_eq_true rfl) (Nat.le_of_ble_eq_true rfl) (Nat.le_of_ble_eq_true rfl) dX2_square_13 (st2 := [iV v7]) rfl) ?_
    clear he8
    refine e2 (fun q0 q1 => ?_)
    subst q0
    subst q1
    exact go_iret (pc := 16) (Y := YX2_square) rfl dX2_square_16
  · refine im (go_aload_n (pc := 17) (Y := YX2_square) 0 dX2_square_17 rfl rfl) ?_
    refine kdg (fun k9 => ?_)
    refine bpg (fun s10 he11 => ?_)
    refine im (go_callV (pc := 18) (Y := YX2_square) (Yc := YX2_asNow) (y := yX2_asNow) (n := 0) (c0 := 2) (q := (RX2, TX2, 37)) this [] [] rfl rfl k9 (mX2_asNow s2 he11) YOK_X2_asNow rfl q1981 q133 q1980 qs102 q1978 (Nat.le_of_ble_eq_true rfl) (Nat.le_of_ble_eq_true rfl) (Nat.le_of_ble_eq_true rfl) dX2_square_18 (st2 := []) rfl) ?_
    clear he11
    refine im (go_iconst (pc := 21) (Y := YX2_square) (v := 0) dX2_square_21 rfl) ?_
    refine im (go_istore_n (pc := 22) (Y := YX2_square) (ls2 := [(1, iV 0), (0, rV (some this))]) dX2_square_22 rfl (Nat.le_of_ble_eq_true rfl) rfl) ?_
    refine im (go_aload_n (pc := 23) (Y := YX2_square) 1 dX2_square_23 rfl rfl) ?_
    refine im (go_iconst (pc := 24) (Y := YX2_square) (v := 0) dX2_square_24 rfl) ?_
    refine kdg (fun k12 => ?_)
    refine bpg (fun v13 he14 => ?_)
    refine im (go_callV (pc := 25) (Y := YX2_square) (Yc := YX2_allEyes) (y := yX2_allEyes) (n := 1) (c0 := 2) (q := (RX2, TX2, 37)) this [iV 0] [] rfl rfl k12 (mX2_allEyes s10 he14) YOK_X2_allEyes rfl q2028 q133 q2027 qs108 q2025 (Nat.le_of_ble_eq_true rfl) (Nat.le_of_ble_eq_true rfl) (Nat.le_of_ble_eq_true rfl) dX2_square_25 (st2 := [iV v13]) rfl) ?_
    clear he14
    refine im (go_istore_n (pc := 28) (Y := YX2_square) (ls2 := [(2, iV v13), (1, iV 0), (0, rV (some this))]) dX2_square_28 rfl (Nat.le_of_ble_eq_true rfl) rfl) ?_
    refine im (go_iconst (pc := 29) (Y := YX2_square) (v := 1) dX2_square_29 rfl) ?_
    refine im (go_istore_n (pc := 30) (Y := YX2_square) (ls2 := [(3, iV 1), (2, iV v13), (1, iV 0), (0, rV (some this))]) dX2_square_30 rfl (Nat.le_of_ble_eq_true rfl) rfl) ?_
    refine bpg (fun v29 he30 h31 => ?_)
    refine go_sub [3, 2, 1, 0] rfl (sX2_square_L31_go s10 this FU _ _ _ _ he30 ?_)
    clear he30
    revert h31
    refine im (go_iload_n (pc := 68) (Y := YX2_square) 0 dX2_square_68 rfl rfl) ?_
    refine e2 (fun q0 q1 => ?_)
    subst q0
    subst q1
    exact go_iret (pc := 69) (Y := YX2_square) rfl dX2_square_69
abbrev YX2_comesBoy : mY := (RX2, cX2_comesBoy, 2, (Option.some .boolean), 1, 21, false)
theorem YOK_X2_comesBoy : YOK yX2_comesBoy 1 := ⟨⟨by decide +kernel, by decide +kernel⟩, by decide +kernel⟩
theorem mX2_comesBoy {G : gG} (s0 : St) {this : Nat} {p0 : Int32} {sE : St} {vE : Int32} (h : sX2_comesBoy s0 this p0 = some (sE, vE)) : Mt G YX2_comesBoy yX2_comesBoy [rV (some this), iV p0] s0 (some (iV vE)) sE := by
  refine go_start (ls0 := [(0, rV (some this)), (1, iV p0)]) (by decide +kernel) rfl (fun h => by cases h) (Nat.le_of_ble_eq_true rfl) rfl ?_
  revert h
  unfold sX2_comesBoy
  refine im (go_aload_n (pc := 0) (Y := YX2_comesBoy) 0 dX2_comesBoy_0 rfl rfl) ?_
  refine flp (go_gI (pc := 1) (Y := YX2_comesBoy) fF39 (by decide) q1663 (Or.inl rfl) dX2_comesBoy_1) (fun v1 => ?_)
  refine flp2 (go_if_lt (pc := 4) (Y := YX2_comesBoy) 30 dX2_comesBoy_4 (by decide)) ?_ ?_
  · refine im (go_aload_n (pc := 30) (Y := YX2_comesBoy) 0 dX2_comesBoy_30 rfl rfl) ?_
    refine im (go_bipush (pc := 31) (Y := YX2_comesBoy) (v := 75) dX2_comesBoy_31 rfl) ?_
    refine im (go_aload_n (pc := 33) (Y := YX2_comesBoy) 0 dX2_comesBoy_33 rfl rfl) ?_
    refine flp (go_gI (pc := 34) (Y := YX2_comesBoy) fF40 (by decide) q1664 (Or.inl rfl) dX2_comesBoy_34) (fun v2 => ?_)
    refine im (go_imul (pc := 37) (Y := YX2_comesBoy) dX2_comesBoy_37) ?_
    refine im (go_bipush (pc := 38) (Y := YX2_comesBoy) (v := 74) dX2_comesBoy_38 rfl) ?_
    refine im (go_iadd (pc := 40) (Y := YX2_comesBoy) dX2_comesBoy_40) ?_
    refine im (go_ldcwI (pc := 41) (Y := YX2_comesBoy) (v := 65537) dX2_comesBoy_41 q2049) ?_
    refine flp (go_irem (pc := 44) (Y := YX2_comesBoy) dX2_comesBoy_44) (fun h => ?_)
    revert h
    refine flp (go_pI (pc := 45) (Y := YX2_comesBoy) fF40 (by decide) q1664 (Or.inl rfl) (Or.inl rfl) rfl rfl rfl dX2_comesBoy_45) (fun s3 => ?_)
    refine im (go_aload_n (pc := 48) (Y := YX2_comesBoy) 0 dX2_comesBoy_48 rfl rfl) ?_
    refine flp (go_gI (pc := 49) (Y := YX2_comesBoy) fF40 (by decide) q1664 (Or.inl rfl) dX2_comesBoy_49) (fun v4 => ?_)
    refine im (go_bipush (pc := 52) (Y := YX2_comesBoy) (v := 100) dX2_comesBoy_52 rfl) ?_
    refine flp (go_irem (pc := 54) (Y := YX2_comesBoy) dX2_comesBoy_54) (fun h => ?_)
    revert h
    refine im (go_aload_n (pc := 55) (Y := YX2_comesBoy) 0 dX2_comesBoy_55 rfl rfl) ?_
    refine flp (go_gR (pc := 56) (Y := YX2_comesBoy) fF1011 (by decide) q1648 (Or.inl rfl) dX2_comesBoy_56) (fun v5 => ?_)
    refine im (go_iconst (pc := 59) (Y := YX2_comesBoy) (v := 0) dX2_comesBoy_59 rfl) ?_
    refine flp (go_lI1 (pc := 60) (Y := YX2_comesBoy) dX2_comesBoy_60) (fun v6 => ?_)
    refine flp2 (go_icmp_ge (pc := 61) (Y := YX2_comesBoy) 68 dX2_comesBoy_61 (by decide)) ?_ ?_
    · refine im (go_iconst (pc := 68) (Y := YX2_comesBoy) (v := 0) dX2_comesBoy_68 rfl) ?_
      refine e2 (fun q0 q1 => ?_)
      subst q0
      subst q1
      exact go_zret (pc := 69) (Y := YX2_comesBoy) rfl rfl dX2_comesBoy_69
    · refine im (go_iconst (pc := 64) (Y := YX2_comesBoy) (v := 1) dX2_comesBoy_64 rfl) ?_
      refine im (go_goto (pc := 65) (Y := YX2_comesBoy) 69 dX2_comesBoy_65 (by decide)) ?_
      refine e2 (fun q0 q1 => ?_)
      subst q0
      subst q1
      exact go_zret (pc := 69) (Y := YX2_comesBoy) rfl rfl dX2_comesBoy_69
  · refine im (go_iload_n (pc := 7) (Y := YX2_comesBoy) 1 dX2_comesBoy_7 rfl rfl) ?_
    refine im (go_bipush (pc := 8) (Y := YX2_comesBoy) (v := 6) dX2_comesBoy_8 rfl) ?_
    refine flp2 (go_icmp_ge (pc := 10) (Y := YX2_comesBoy) 28 dX2_comesBoy_10 (by decide)) ?_ ?_
    · refine im (go_iconst (pc := 28) (Y := YX2_comesBoy) (v := 0) dX2_comesBoy_28 rfl) ?_
      refine e2 (fun q0 q1 => ?_)
      subst q0
      subst q1
      exact go_zret (pc := 29) (Y := YX2_comesBoy) rfl rfl dX2_comesBoy_29
    · refine im (go_aload_n (pc := 13) (Y := YX2_comesBoy) 0 dX2_comesBoy_13 rfl rfl) ?_
      refine flp (go_gI (pc := 14) (Y := YX2_comesBoy) fF39 (by decide) q1663 (Or.inl rfl) dX2_comesBoy_14) (fun v7 => ?_)
      refine im (go_iload_n (pc := 17) (Y := YX2_comesBoy) 1 dX2_comesBoy_17 rfl rfl) ?_
      refine bpg (fun v8 he9 => ?_)
      refine im (go_callS (pc := 18) (Y := YX2_comesBoy) (Yc := YX2_hasBit) (y := yX2_hasBit) (n := 2) [iV v7, iV p0] [] rfl (mX2_hasBit s0 he9) YOK_X2_hasBit rfl q2000 q133 q1999 q1998 (Nat.le_of_ble_eq_true rfl) (Nat.le_of_ble_eq_true rfl) (Nat.le_of_ble_eq_true rfl) dX2_comesBoy_18 (st2 := [iV v8]) rfl) ?_
      clear he9
      refine flp2 (go_if_eq (pc := 21) (Y := YX2_comesBoy) 28 dX2_comesBoy_21 (by decide)) ?_ ?_
      · refine im (go_iconst (pc := 28) (Y := YX2_comesBoy) (v := 0) dX2_comesBoy_28 rfl) ?_
        refine e2 (fun q0 q1 => ?_)
        subst q0
        subst q1
        exact go_zret (pc := 29) (Y := YX2_comesBoy) rfl rfl dX2_comesBoy_29
      · refine im (go_iconst (pc := 24) (Y := YX2_comesBoy) (v := 1) dX2_comesBoy_24 rfl) ?_
        refine im (go_goto (pc := 25) (Y := YX2_comesBoy) 29 dX2_comesBoy_25 (by decide)) ?_
        refine e2 (fun q0 q1 => ?_)
        subst q0
        subst q1
        exact go_zret (pc := 29) (Y := YX2_comesBoy) rfl rfl dX2_comesBoy_29
abbrev YX2_run : mY := (RX2, cX2_run, 9, (Option.none : Option Jvm.ClassFile.FieldType), 3, 68, false)
theorem YOK_X2_run : YOK yX2_run 4 := ⟨⟨by decide +kernel, by decide +kernel⟩, by decide +kernel⟩
theorem sX2_run_L59_go {G : gG} {s0 : St} {sE : St} (this : Nat) (i2 : Int32) (i3 : Int32) (i4 : Int32) (i5 : Int32) (i6 : Int32) : ∀ (n : Nat) (s9 : St) (v10 : Int32) (v11 : Int32) (o : St ⊕ (St)), sX2_run_L59 this i2 i3 i4 i5 i6 n s9 v10 v11 = some o → (∀ r, o = .inl r → r = sE) → (∀ (s12 : St), o = .inr s12 → Go G YX2_run s0 sE none 252 [] [] s12) → Go G YX2_run s0 sE none 59 [(0, rV (some this)), (2, iV i2), (3, iV i3), (4, iV i4), (5, iV i5), (6, iV i6), (7, iV v10), (8, iV v11)] [] s9 := by
  intro n
  induction n with
  | zero => intro s9 v10 v11 o h hr hx; rw [sX2_run_L59] at h; cases h
  | succ n ih =>
    intro s9 v10 v11 o h hr hx
    revert h
    rw [sX2_run_L59]
    refine im (go_iload (pc := 59) (Y := YX2_run) 7 dX2_run_59 rfl) ?_
    refine im (go_bipush (pc := 61) (Y := YX2_run) (v := 59) dX2_run_61 rfl) ?_
    refine flp2 (go_icmp_gt (pc := 63) (Y := YX2_run) 252 dX2_run_63 (by decide)) ?_ ?_
    · refine eor (fun hq => ?_)
      exact go_sub [] rfl (hx _ hq)
    · refine im (go_aload_n (pc := 66) (Y := YX2_run) 0 dX2_run_66 rfl rfl) ?_
      refine im (go_aload_n (pc := 67) (Y := YX2_run) 0 dX2_run_67 rfl rfl) ?_
      refine flp (go_gI (pc := 68) (Y := YX2_run) fF37 (by decide) q1661 (Or.inl rfl) dX2_run_68) (fun v13 => ?_)
      refine flp (go_pI (pc := 71) (Y := YX2_run) fF38 (by decide) q1662 (Or.inl rfl) (Or.inl rfl) rfl rfl rfl dX2_run_71) (fun s14 => ?_)
      refine im (go_aload_n (pc := 74) (Y := YX2_run) 0 dX2_run_74 rfl rfl) ?_
      refine im (go_dup (pc := 75) (Y := YX2_run) dX2_run_75 rfl) ?_
      refine flp (go_gI (pc := 76) (Y := YX2_run) fF37 (by decide) q1661 (Or.inl rfl) dX2_run_76) (fun v15 => ?_)
      refine im (go_aload_n (pc := 79) (Y := YX2_run) 0 dX2_run_79 rfl rfl) ?_
      refine im (go_iload_n (pc := 80) (Y := YX2_run) 1 dX2_run_80 rfl rfl) ?_
      refine im (go_iload (pc := 81) (Y := YX2_run) 7 dX2_run_81 rfl) ?_
      refine kdg (fun k16 => ?_)
      refine bpg (fun v17 he18 => ?_)
      refine im (go_callV (pc := 83) (Y := YX2_run) (Yc := YX2_watchersOf) (y := yX2_watchersOf) (n := 2) (c0 := 2) (q := (RX2, TX2, 37)) this [iV i2, iV v11] [iV v15, rV (some this)] rfl rfl k16 (mX2_watchersOf s14 he18) YOK_X2_watchersOf rfl q2008 q133 q2007 qs106 q2005 (Nat.le_of_ble_eq_true rfl) (Nat.le_of_ble_eq_true rfl) (Nat.le_of_ble_eq_true rfl) dX2_run_83 (st2 := [iV v17, iV v15, rV (some this)]) rfl) ?_
      clear he18
      refine im (go_iload (pc := 86) (Y := YX2_run) 5 dX2_run_86 rfl) ?_
      refine im (go_iconst (pc := 88) (Y := YX2_run) (v := -1) dX2_run_88 rfl) ?_
      refine im (go_ixor (pc := 89) (Y := YX2_run) dX2_run_89) ?_
      refine im (go_iand (pc := 90) (Y := YX2_run) dX2_run_90) ?_
      refine im (go_ior (pc := 91) (Y := YX2_run) dX2_run_91) ?_
      refine flp (go_pI (pc := 92) (Y := YX2_run) fF37 (by decide) q1661 (Or.inl rfl) (Or.inl rfl) rfl rfl rfl dX2_run_92) (fun s19 => ?_)
      refine im (go_iload (pc := 95) (Y := YX2_run) 6 dX2_run_95 rfl) ?_
      refine im (go_iload (pc := 97) (Y := YX2_run) 3 dX2_run_97 rfl) ?_
      refine b2g (fun s20 v21 he60 h61 => ?_)
      have hj118 : Go G YX2_run s0 sE none 118 [(0, rV (some this)), (2, iV i2), (3, iV i3), (4, iV i4), (5, iV i5), (6, iV i6), (8, iV v11)] [iV v21, iV v10] s20 := by
        clear he60
        revert h61
        refine im (go_iadd (pc := 118) (Y := YX2_run) dX2_run_118) ?_
        refine im (go_istore (pc := 119) (Y := YX2_run) (ls2 := [(7, iV (v10 + v21)), (0, rV (some this)), (2, iV i2), (3, iV i3), (4, iV i4), (5, iV i5), (6, iV i6), (8, iV v11)]) dX2_run_119 (Nat.le_of_ble_eq_true rfl) rfl) ?_
        refine im (go_aload_n (pc := 121) (Y := YX2_run) 1 dX2_run_121 rfl rfl) ?_
        refine im (go_aload_n (pc := 122) (Y := YX2_run) 1 dX2_run_122 rfl rfl) ?_
        refine flp (go_gI (pc := 123) (Y := YX2_run) fF37 (by decide) q1661 (Or.inl rfl) dX2_run_123) (fun v22 => ?_)
        refine kdg (fun k23 => ?_)
        refine bpg (fun v24 he25 => ?_)
        refine im (go_callV (pc := 126) (Y := YX2_run) (Yc := YX2_eyesOf) (y := yX2_eyesOf) (n := 1) (c0 := 2) (q := (RX2, TX2, 37)) this [iV v22] [] rfl rfl k23 (mX2_eyesOf s20 he25) YOK_X2_eyesOf rfl q2016 q133 q2015 qs107 q2013 (Nat.le_of_ble_eq_true rfl) (Nat.le_of_ble_eq_true rfl) (Nat.le_of_ble_eq_true rfl) dX2_run_126 (st2 := [iV v24]) rfl) ?_
        clear he25
        refine im (go_iconst (pc := 129) (Y := YX2_run) (v := 2) dX2_run_129 rfl) ?_
        refine im (go_iload (pc := 130) (Y := YX2_run) 0 dX2_run_130 rfl) ?_
        refine im (go_imul (pc := 132) (Y := YX2_run) dX2_run_132) ?_
        refine im (go_iadd (pc := 133) (Y := YX2_run) dX2_run_133) ?_
        refine im (go_bipush (pc := 134) (Y := YX2_run) (v := 6) dX2_run_134 rfl) ?_
        refine flp2 (go_icmp_lt (pc := 136) (Y := YX2_run) 151 dX2_run_136 (by decide)) ?_ ?_
        · refine im (go_aload_n (pc := 151) (Y := YX2_run) 1 dX2_run_151 rfl rfl) ?_
          refine im (go_dup (pc := 152) (Y := YX2_run) dX2_run_152 rfl) ?_
          refine flp (go_gI (pc := 153) (Y := YX2_run) fF36 (by decide) q1660 (Or.inl rfl) dX2_run_153) (fun v26 => ?_)
          refine im (go_aload_n (pc := 156) (Y := YX2_run) 1 dX2_run_156 rfl rfl) ?_
          refine flp (go_gR (pc := 157) (Y := YX2_run) fF1017 (by decide) q1656 (Or.inl rfl) dX2_run_157) (fun v27 => ?_)
          refine im (go_aload_n (pc := 160) (Y := YX2_run) 1 dX2_run_160 rfl rfl) ?_
          refine flp (go_gR (pc := 161) (Y := YX2_run) fF1011 (by decide) q1648 (Or.inl rfl) dX2_run_161) (fun v28 => ?_)
          refine im (go_iload (pc := 164) (Y := YX2_run) 5 dX2_run_164 rfl) ?_
          refine flp (go_lI1 (pc := 166) (Y := YX2_run) dX2_run_166) (fun v29 => ?_)
          refine flp (go_lI1 (pc := 167) (Y := YX2_run) dX2_run_167) (fun v30 => ?_)
          refine im (go_aload_n (pc := 168) (Y := YX2_run) 1 dX2_run_168 rfl rfl) ?_
          refine flp (go_gR (pc := 169) (Y := YX2_run) fF1017 (by decide) q1656 (Or.inl rfl) dX2_run_169) (fun v31 => ?_)
          refine im (go_aload_n (pc := 172) (Y := YX2_run) 1 dX2_run_172 rfl rfl) ?_
          refine flp (go_gR (pc := 173) (Y := YX2_run) fF1011 (by decide) q1648 (Or.inl rfl) dX2_run_173) (fun v32 => ?_)
          refine im (go_iload (pc := 176) (Y := YX2_run) 5 dX2_run_176 rfl) ?_
          refine im (go_iconst (pc := 178) (Y := YX2_run) (v := 1) dX2_run_178 rfl) ?_
          refine im (go_iadd (pc := 179) (Y := YX2_run) dX2_run_179) ?_
          refine flp (go_lI1 (pc := 180) (Y := YX2_run) dX2_run_180) (fun v33 => ?_)
          refine flp (go_lI1 (pc := 181) (Y := YX2_run) dX2_run_181) (fun v34 => ?_)
          refine im (go_isub (pc := 182) (Y := YX2_run) dX2_run_182) ?_
          refine im (go_iadd (pc := 183) (Y := YX2_run) dX2_run_183) ?_
          refine flp (go_pI (pc := 184) (Y := YX2_run) fF36 (by decide) q1660 (Or.inl rfl) (Or.inl rfl) rfl rfl rfl dX2_run_184) (fun s35 => ?_)
          refine im (go_aload_n (pc := 187) (Y := YX2_run) 1 dX2_run_187 rfl rfl) ?_
          refine flp (go_gI (pc := 188) (Y := YX2_run) fF36 (by decide) q1660 (Or.inl rfl) dX2_run_188) (fun v36 => ?_)
          refine im (go_aload_n (pc := 191) (Y := YX2_run) 1 dX2_run_191 rfl rfl) ?_
          refine flp (go_gR (pc := 192) (Y := YX2_run) fF1011 (by decide) q1648 (Or.inl rfl) dX2_run_192) (fun v37 => ?_)
          refine im (go_iload (pc := 195) (Y := YX2_run) 5 dX2_run_195 rfl) ?_
          refine im (go_iconst (pc := 197) (Y := YX2_run) (v := 4) dX2_run_197 rfl) ?_
          refine im (go_iadd (pc := 198) (Y := YX2_run) dX2_run_198) ?_
          refine flp (go_lI1 (pc := 199) (Y := YX2_run) dX2_run_199) (fun v38 => ?_)
          refine flp2 (go_icmp_ge (pc := 200) (Y := YX2_run) 223 dX2_run_200 (by decide)) ?_ ?_
          · refine im (go_aload_n (pc := 223) (Y := YX2_run) 1 dX2_run_223 rfl rfl) ?_
            refine im (go_aload_n (pc := 224) (Y := YX2_run) 1 dX2_run_224 rfl rfl) ?_
            refine flp (go_gI (pc := 225) (Y := YX2_run) fF36 (by decide) q1660 (Or.inl rfl) dX2_run_225) (fun v39 => ?_)
            refine bpg (fun v40 he43 h44 => ?_)
            have hj236 : Go G YX2_run s0 sE none 236 [(0, rV (some this)), (8, iV v11)] [iV v40, rV (some this)] s35 := by
              clear he43
              revert h44
              refine flp (go_pI (pc := 236) (Y := YX2_run) fF34 (by decide) q1658 (Or.inl rfl) (Or.inl rfl) rfl rfl rfl dX2_run_236) (fun s41 => ?_)
              refine im (go_aload_n (pc := 239) (Y := YX2_run) 0 dX2_run_239 rfl rfl) ?_
              refine im (go_iload (pc := 240) (Y := YX2_run) 1 dX2_run_240 rfl) ?_
              refine flp (go_pI (pc := 242) (Y := YX2_run) fF35 (by decide) q1659 (Or.inl rfl) (Or.inl rfl) rfl rfl rfl dX2_run_242) (fun s42 => ?_)
              refine eor (fun hq => ?_)
              have hq2 := hr _ hq
              subst hq2
              exact go_vret (pc := 245) (Y := YX2_run) rfl dX2_run_245
            clear h44
            revert he43
            refine flp2 (go_if_le (pc := 228) (Y := YX2_run) 235 dX2_run_228 (by decide)) ?_ ?_
            · refine im (go_iconst (pc := 235) (Y := YX2_run) (v := 2) dX2_run_235 rfl) ?_
              refine e1 (fun q0 => ?_)
              subst q0
              exact go_sub [1, 7] rfl hj236
            · refine im (go_iconst (pc := 231) (Y := YX2_run) (v := 1) dX2_run_231 rfl) ?_
              refine im (go_goto (pc := 232) (Y := YX2_run) 236 dX2_run_232 (by decide)) ?_
              refine e1 (fun q0 => ?_)
              subst q0
              exact go_sub [1, 7] rfl hj236
          · refine im (go_aload_n (pc := 203) (Y := YX2_run) 1 dX2_run_203 rfl rfl) ?_
            refine flp (go_gI (pc := 204) (Y := YX2_run) fF36 (by decide) q1660 (Or.inl rfl) dX2_run_204) (fun v45 => ?_)
            refine im (go_ineg (pc := 207) (Y := YX2_run) dX2_run_207) ?_
            refine im (go_aload_n (pc := 208) (Y := YX2_run) 1 dX2_run_208 rfl rfl) ?_
            refine flp (go_gR (pc := 209) (Y := YX2_run) fF1011 (by decide) q1648 (Or.inl rfl) dX2_run_209) (fun v46 => ?_)
            refine im (go_iload (pc := 212) (Y := YX2_run) 5 dX2_run_212 rfl) ?_
            refine im (go_iconst (pc := 214) (Y := YX2_run) (v := 4) dX2_run_214 rfl) ?_
            refine im (go_iadd (pc := 215) (Y := YX2_run) dX2_run_215) ?_
            refine flp (go_lI1 (pc := 216) (Y := YX2_run) dX2_run_216) (fun v47 => ?_)
            refine flp2 (go_icmp_ge (pc := 217) (Y := YX2_run) 223 dX2_run_217 (by decide)) ?_ ?_
            · refine im (go_aload_n (pc := 223) (Y := YX2_run) 1 dX2_run_223 rfl rfl) ?_
              refine im (go_aload_n (pc := 224) (Y := YX2_run) 1 dX2_run_224 rfl rfl) ?_
              refine flp (go_gI (pc := 225) (Y := YX2_run) fF36 (by decide) q1660 (Or.inl rfl) dX2_run_225) (fun v48 => ?_)
              refine bpg (fun v49 he52 h53 => ?_)
              have hj236 : Go G YX2_run s0 sE none 236 [(0, rV (some this)), (8, iV v11)] [iV v49, rV (some this)] s35 := by
                clear he52
                revert h53
                refine flp (go_pI (pc := 236) (Y := YX2_run) fF34 (by decide) q1658 (Or.inl rfl) (Or.inl rfl) rfl rfl rfl dX2_run_236) (fun s50 => ?_)
                refine im (go_aload_n (pc := 239) (Y := YX2_run) 0 dX2_run_239 rfl rfl) ?_
                refine im (go_iload (pc := 240) (Y := YX2_run) 1 dX2_run_240 rfl) ?_
                refine flp (go_pI (pc := 242) (Y := YX2_run) fF35 (by decide) q1659 (Or.inl rfl) (Or.inl rfl) rfl rfl rfl dX2_run_242) (fun s51 => ?_)
                refine eor (fun hq => ?_)
                have hq2 := hr _ hq
                subst hq2
                exact go_vret (pc := 245) (Y := YX2_run) rfl dX2_run_245
              clear h53
              revert he52
              refine flp2 (go_if_le (pc := 228) (Y := YX2_run) 235 dX2_run_228 (by decide)) ?_ ?_
              · refine im (go_iconst (pc := 235) (Y := YX2_run) (v := 2) dX2_run_235 rfl) ?_
                refine e1 (fun q0 => ?_)
                subst q0
                exact go_sub [1, 7] rfl hj236
              · refine im (go_iconst (pc := 231) (Y := YX2_run) (v := 1) dX2_run_231 rfl) ?_
                refine im (go_goto (pc := 232) (Y := YX2_run) 236 dX2_run_232 (by decide)) ?_
                refine e1 (fun q0 => ?_)
                subst q0
                exact go_sub [1, 7] rfl hj236
            · refine im (go_goto (pc := 220) (Y := YX2_run) 246 dX2_run_220 (by decide)) ?_
              refine im (go_iinc (pc := 246) (Y := YX2_run) 7 (v := (v11 + 1)) (ls2 := [(8, iV (v11 + 1)), (7, iV (v10 + v21)), (0, rV (some this)), (2, iV i2), (3, iV i3), (4, iV i4), (5, iV i5), (6, iV i6)]) dX2_run_246 rfl rfl (Nat.le_of_ble_eq_true rfl) rfl) ?_
              refine im (go_goto (pc := 249) (Y := YX2_run) 59 dX2_run_249 (by decide)) ?_
              exact fun hq => go_sub [2, 3, 4, 5, 6, 7, 1, 0] rfl (ih _ _ _ _ hq hr hx)
        · refine im (go_aload_n (pc := 139) (Y := YX2_run) 1 dX2_run_139 rfl rfl) ?_
          refine im (go_iconst (pc := 140) (Y := YX2_run) (v := 0) dX2_run_140 rfl) ?_
          refine flp (go_pI (pc := 141) (Y := YX2_run) fF34 (by decide) q1658 (Or.inl rfl) (Or.inl rfl) rfl rfl rfl dX2_run_141) (fun s54 => ?_)
          refine im (go_aload_n (pc := 144) (Y := YX2_run) 1 dX2_run_144 rfl rfl) ?_
          refine im (go_iload (pc := 145) (Y := YX2_run) 7 dX2_run_145 rfl) ?_
          refine flp (go_pI (pc := 147) (Y := YX2_run) fF35 (by decide) q1659 (Or.inl rfl) (Or.inl rfl) rfl rfl rfl dX2_run_147) (fun s55 => ?_)
          refine eor (fun hq => ?_)
          have hq2 := hr _ hq
          subst hq2
          exact go_vret (pc := 150) (Y := YX2_run) rfl dX2_run_150
      clear h61
      revert he60
      refine flp2 (go_if_eq (pc := 99) (Y := YX2_run) 117 dX2_run_99 (by decide)) ?_ ?_
      · refine im (go_iconst (pc := 117) (Y := YX2_run) (v := 0) dX2_run_117 rfl) ?_
        refine e2 (fun q0 q1 => ?_)
        subst q0
        subst q1
        exact go_sub [0, 1, 2, 3, 4, 5, 7] rfl hj118
      · refine im (go_aload_n (pc := 102) (Y := YX2_run) 0 dX2_run_102 rfl rfl) ?_
        refine im (go_iload (pc := 103) (Y := YX2_run) 7 dX2_run_103 rfl) ?_
        refine im (go_iload_n (pc := 105) (Y := YX2_run) 2 dX2_run_105 rfl rfl) ?_
        refine im (go_isub (pc := 106) (Y := YX2_run) dX2_run_106) ?_
        refine kdg (fun k56 => ?_)
        refine bdg (fun s57 v58 he59 => ?_)
        refine im (go_callV (pc := 107) (Y := YX2_run) (Yc := YX2_comesBoy) (y := yX2_comesBoy) (n := 1) (c0 := 2) (q := (RX2, TX2, 37)) this [iV (v11 - i3)] [iV v10] rfl rfl k56 (mX2_comesBoy s19 he59) YOK_X2_comesBoy rfl q2048 q133 q2047 qs112 q2045 (Nat.le_of_ble_eq_true rfl) (Nat.le_of_ble_eq_true rfl) (Nat.le_of_ble_eq_true rfl) dX2_run_107 (st2 := [iV v58, iV v10]) rfl) ?_
        clear he59
        refine flp2 (go_if_eq (pc := 110) (Y := YX2_run) 117 dX2_run_110 (by decide)) ?_ ?_
        · refine im (go_iconst (pc := 117) (Y := YX2_run) (v := 0) dX2_run_117 rfl) ?_
          refine e2 (fun q0 q1 => ?_)
          subst q0
          subst q1
          exact go_sub [0, 1, 2, 3, 4, 5, 7] rfl hj118
        · refine im (go_iconst (pc := 113) (Y := YX2_run) (v := 1) dX2_run_113 rfl) ?_
          refine im (go_goto (pc := 114) (Y := YX2_run) 118 dX2_run_114 (by decide)) ?_
          refine e2 (fun q0 q1 => ?_)
          subst q0
          subst q1
          exact go_sub [0, 1, 2, 3, 4, 5, 7] rfl hj118
theorem mX2_run {G : gG} (s0 : St) {this : Nat} {p0 : Int32} {p1 : Int32} {p2 : Int32} {p3 : Int32} {sE : St} (h : sX2_run s0 this p0 p1 p2 p3 = some sE) : Mt G YX2_run yX2_run [rV (some this), iV p0, iV p1, iV p2, iV p3] s0 none sE := by
  refine go_start (ls0 := [(0, rV (some this)), (1, iV p0), (2, iV p1), (3, iV p2), (4, iV p3)]) (by decide +kernel) rfl (fun h => by cases h) (Nat.le_of_ble_eq_true rfl) rfl ?_
  revert h
  unfold sX2_run
  refine im (go_bipush (pc := 0) (Y := YX2_run) (v := 80) dX2_run_0 rfl) ?_
  refine im (go_iconst (pc := 2) (Y := YX2_run) (v := 5) dX2_run_2 rfl) ?_
  refine im (go_iload_n (pc := 3) (Y := YX2_run) 1 dX2_run_3 rfl rfl) ?_
  refine im (go_imul (pc := 4) (Y := YX2_run) dX2_run_4) ?_
  refine im (go_iadd (pc := 5) (Y := YX2_run) dX2_run_5) ?_
  refine im (go_istore (pc := 6) (Y := YX2_run) (ls2 := [(5, iV (80 + (5 * p0))), (0, rV (some this)), (1, iV p0), (2, iV p1), (3, iV p2), (4, iV p3)]) dX2_run_6 (Nat.le_of_ble_eq_true rfl) rfl) ?_
  refine im (go_iconst (pc := 8) (Y := YX2_run) (v := 1) dX2_run_8 rfl) ?_
  refine im (go_aload_n (pc := 9) (Y := YX2_run) 1 dX2_run_9 rfl rfl) ?_
  refine flp (go_gR (pc := 10) (Y := YX2_run) fF1011 (by decide) q1648 (Or.inl rfl) dX2_run_10) (fun v1 => ?_)
  refine im (go_iload (pc := 13) (Y := YX2_run) 0 dX2_run_13 rfl) ?_
  refine flp (go_lI1 (pc := 15) (Y := YX2_run) dX2_run_15) (fun v2 => ?_)
  refine im (go_ishl (pc := 16) (Y := YX2_run) dX2_run_16) ?_
  refine im (go_iconst (pc := 17) (Y := YX2_run) (v := 1) dX2_run_17 rfl) ?_
  refine im (go_aload_n (pc := 18) (Y := YX2_run) 1 dX2_run_18 rfl rfl) ?_
  refine flp (go_gR (pc := 19) (Y := YX2_run) fF1011 (by decide) q1648 (Or.inl rfl) dX2_run_19) (fun v3 => ?_)
  refine im (go_iload (pc := 22) (Y := YX2_run) 0 dX2_run_22 rfl) ?_
  refine im (go_iconst (pc := 24) (Y := YX2_run) (v := 1) dX2_run_24 rfl) ?_
  refine im (go_iadd (pc := 25) (Y := YX2_run) dX2_run_25) ?_
  refine flp (go_lI1 (pc := 26) (Y := YX2_run) dX2_run_26) (fun v4 => ?_)
  refine im (go_ishl (pc := 27) (Y := YX2_run) dX2_run_27) ?_
  refine im (go_ior (pc := 28) (Y := YX2_run) dX2_run_28) ?_
  refine im (go_istore (pc := 29) (Y := YX2_run) (ls2 := [(6, iV (((1 : Int32) <<< (v2 &&& 31)) ||| ((1 : Int32) <<< (v4 &&& 31)))), (5, iV (80 + (5 * p0))), (0, rV (some this)), (1, iV p0), (2, iV p1), (3, iV p2), (4, iV p3)]) dX2_run_29 (Nat.le_of_ble_eq_true rfl) rfl) ?_
  refine im (go_iconst (pc := 31) (Y := YX2_run) (v := 0) dX2_run_31 rfl) ?_
  refine im (go_istore (pc := 32) (Y := YX2_run) (ls2 := [(7, iV 0), (6, iV (((1 : Int32) <<< (v2 &&& 31)) ||| ((1 : Int32) <<< (v4 &&& 31)))), (5, iV (80 + (5 * p0))), (0, rV (some this)), (1, iV p0), (2, iV p1), (3, iV p2), (4, iV p3)]) dX2_run_32 (Nat.le_of_ble_eq_true rfl) rfl) ?_
  refine im (go_aload_n (pc := 34) (Y := YX2_run) 3 dX2_run_34 rfl rfl) ?_
  refine im (go_bipush (pc := 35) (Y := YX2_run) (v := -2) dX2_run_35 rfl) ?_
  refine flp (go_pI (pc := 37) (Y := YX2_run) fF34 (by decide) q1658 (Or.inl rfl) (Or.inl rfl) rfl rfl rfl dX2_run_37) (fun s5 => ?_)
  refine im (go_aload_n (pc := 40) (Y := YX2_run) 3 dX2_run_40 rfl rfl) ?_
  refine im (go_bipush (pc := 41) (Y := YX2_run) (v := -2) dX2_run_41 rfl) ?_
  refine flp (go_pI (pc := 43) (Y := YX2_run) fF35 (by decide) q1659 (Or.inl rfl) (Or.inl rfl) rfl rfl rfl dX2_run_43) (fun s6 => ?_)
  refine im (go_aload_n (pc := 46) (Y := YX2_run) 3 dX2_run_46 rfl rfl) ?_
  refine im (go_iconst (pc := 47) (Y := YX2_run) (v := 0) dX2_run_47 rfl) ?_
  refine flp (go_pI (pc := 48) (Y := YX2_run) fF36 (by decide) q1660 (Or.inl rfl) (Or.inl rfl) rfl rfl rfl dX2_run_48) (fun s7 => ?_)
  refine im (go_aload_n (pc := 51) (Y := YX2_run) 3 dX2_run_51 rfl rfl) ?_
  refine im (go_iconst (pc := 52) (Y := YX2_run) (v := 0) dX2_run_52 rfl) ?_
  refine flp (go_pI (pc := 53) (Y := YX2_run) fF37 (by decide) q1661 (Or.inl rfl) (Or.inl rfl) rfl rfl rfl dX2_run_53) (fun s8 => ?_)
  refine im (go_iload_n (pc := 56) (Y := YX2_run) 6 dX2_run_56 rfl rfl) ?_
  refine im (go_istore (pc := 57) (Y := YX2_run) (ls2 := [(8, iV p2), (7, iV 0), (6, iV (((1 : Int32) <<< (v2 &&& 31)) ||| ((1 : Int32) <<< (v4 &&& 31)))), (5, iV (80 + (5 * p0))), (0, rV (some this)), (1, iV p0), (2, iV p1), (3, iV p2), (4, iV p3)]) dX2_run_57 (Nat.le_of_ble_eq_true rfl) rfl) ?_
  refine lcg (fun o65 he63 h64 => ?_)
  refine go_sub [4, 6, 7, 8, 3, 2, 1, 0] rfl (sX2_run_L59_go this p1 p2 p3 (80 + (5 * p0)) (((1 : Int32) <<< (v2 &&& 31)) ||| ((1 : Int32) <<< (v4 &&& 31))) FU _ _ _ _ he63 h64.1 (fun s62 hq => ?_))
  have hw := h64.2 s62 hq
  clear he63
  revert hw
  refine e1 (fun q0 => ?_)
  subst q0
  exact go_vret (pc := 252) (Y := YX2_run) rfl dX2_run_252
abbrev YX2_runTold : mY := (RX2, cX2_runTold, 2, (Option.none : Option Jvm.ClassFile.FieldType), 4, 96, false)
theorem YOK_X2_runTold : YOK yX2_runTold 1 := ⟨⟨by decide +kernel, by decide +kernel⟩, by decide +kernel⟩
theorem mX2_runTold {G : gG} (s0 : St) {this : Nat} {p0 : Int32} {sE : St} (h : sX2_runTold s0 this p0 = some sE) : Mt G YX2_runTold yX2_runTold [rV (some this), iV p0] s0 none sE := by
  refine go_start (ls0 := [(0, rV (some this)), (1, iV p0)]) (by decide +kernel) rfl (fun h => by cases h) (Nat.le_of_ble_eq_true rfl) rfl ?_
  revert h
  unfold sX2_runTold
  refine im (go_aload_n (pc := 0) (Y := YX2_runTold) 0 dX2_runTold_0 rfl rfl) ?_
  refine im (go_iload_n (pc := 1) (Y := YX2_runTold) 1 dX2_runTold_1 rfl rfl) ?_
  refine im (go_aload_n (pc := 2) (Y := YX2_runTold) 0 dX2_runTold_2 rfl rfl) ?_
  refine flp (go_gR (pc := 3) (Y := YX2_runTold) fF1011 (by decide) q1648 (Or.inl rfl) dX2_runTold_3) (fun v1 => ?_)
  refine im (go_bipush (pc := 6) (Y := YX2_runTold) (v := 80) dX2_runTold_6 rfl) ?_
  refine im (go_iconst (pc := 8) (Y := YX2_runTold) (v := 5) dX2_runTold_8 rfl) ?_
  refine im (go_iload_n (pc := 9) (Y := YX2_runTold) 1 dX2_runTold_9 rfl rfl) ?_
  refine im (go_imul (pc := 10) (Y := YX2_runTold) dX2_runTold_10) ?_
  refine im (go_iadd (pc := 11) (Y := YX2_runTold) dX2_runTold_11) ?_
  refine im (go_iconst (pc := 12) (Y := YX2_runTold) (v := 2) dX2_runTold_12 rfl) ?_
  refine im (go_iadd (pc := 13) (Y := YX2_runTold) dX2_runTold_13) ?_
  refine flp (go_lI1 (pc := 14) (Y := YX2_runTold) dX2_runTold_14) (fun v2 => ?_)
  refine im (go_aload_n (pc := 15) (Y := YX2_runTold) 0 dX2_runTold_15 rfl rfl) ?_
  refine flp (go_gR (pc := 16) (Y := YX2_runTold) fF1011 (by decide) q1648 (Or.inl rfl) dX2_runTold_16) (fun v3 => ?_)
  refine im (go_bipush (pc := 19) (Y := YX2_runTold) (v := 80) dX2_runTold_19 rfl) ?_
  refine im (go_iconst (pc := 21) (Y := YX2_runTold) (v := 5) dX2_runTold_21 rfl) ?_
  refine im (go_iload_n (pc := 22) (Y := YX2_runTold) 1 dX2_runTold_22 rfl rfl) ?_
  refine im (go_imul (pc := 23) (Y := YX2_runTold) dX2_runTold_23) ?_
  refine im (go_iadd (pc := 24) (Y := YX2_runTold) dX2_runTold_24) ?_
  refine im (go_iconst (pc := 25) (Y := YX2_runTold) (v := 3) dX2_runTold_25 rfl) ?_
  refine im (go_iadd (pc := 26) (Y := YX2_runTold) dX2_runTold_26) ?_
  refine flp (go_lI1 (pc := 27) (Y := YX2_runTold) dX2_runTold_27) (fun v4 => ?_)
  refine im (go_iconst (pc := 28) (Y := YX2_runTold) (v := 0) dX2_runTold_28 rfl) ?_
  refine kdg (fun k5 => ?_)
  refine bpg (fun s6 he7 => ?_)
  refine im (go_callV (pc := 29) (Y := YX2_runTold) (Yc := YX2_run) (y := yX2_run) (n := 4) (c0 := 2) (q := (RX2, TX2, 37)) this [iV p0, iV v2, iV v4, iV 0] [] rfl rfl k5 (mX2_run s0 he7) YOK_X2_run rfl q2044 q133 q2043 qs111 q2041 (Nat.le_of_ble_eq_true rfl) (Nat.le_of_ble_eq_true rfl) (Nat.le_of_ble_eq_true rfl) dX2_runTold_29 (st2 := []) rfl) ?_
  clear he7
  refine e1 (fun q0 => ?_)
  subst q0
  exact go_vret (pc := 32) (Y := YX2_runTold) rfl dX2_runTold_32
abbrev YX2_goOver : mY := (RX2, cX2_goOver, 2, (Option.some .boolean), 5, 117, false)
theorem YOK_X2_goOver : YOK yX2_goOver 1 := ⟨⟨by decide +kernel, by decide +kernel⟩, by decide +kernel⟩
theorem mX2_goOver {G : gG} (s0 : St) {this : Nat} {p0 : Int32} {sE : St} {vE : Int32} (h : sX2_goOver s0 this p0 = some (sE, vE)) : Mt G YX2_goOver yX2_goOver [rV (some this), iV p0] s0 (some (iV vE)) sE := by
  refine go_start (ls0 := [(0, rV (some this)), (1, iV p0)]) (by decide +kernel) rfl (fun h => by cases h) (Nat.le_of_ble_eq_true rfl) rfl ?_
  revert h
  unfold sX2_goOver
  refine im (go_aload_n (pc := 0) (Y := YX2_goOver) 0 dX2_goOver_0 rfl rfl) ?_
  refine im (go_iload_n (pc := 1) (Y := YX2_goOver) 1 dX2_goOver_1 rfl rfl) ?_
  refine kdg (fun k1 => ?_)
  refine bpg (fun v2 he3 => ?_)
  refine im (go_callV (pc := 2) (Y := YX2_goOver) (Yc := YX2_isQuarrel) (y := yX2_isQuarrel) (n := 1) (c0 := 2) (q := (RX2, TX2, 37)) this [iV p0] [] rfl rfl k1 (mX2_isQuarrel s0 he3) YOK_X2_isQuarrel rfl q1965 q133 q1964 qs99 q1962 (Nat.le_of_ble_eq_true rfl) (Nat.le_of_ble_eq_true rfl) (Nat.le_of_ble_eq_true rfl) dX2_goOver_2 (st2 := [iV v2]) rfl) ?_
  clear he3
  refine flp2 (go_if_ne (pc := 5) (Y := YX2_goOver) 10 dX2_goOver_5 (by decide)) ?_ ?_
  · refine im (go_iconst (pc := 8) (Y := YX2_goOver) (v := 0) dX2_goOver_8 rfl) ?_
    refine e2 (fun q0 q1 => ?_)
    subst q0
    subst q1
    exact go_zret (pc := 9) (Y := YX2_goOver) rfl rfl dX2_goOver_9
  · refine im (go_aload_n (pc := 10) (Y := YX2_goOver) 0 dX2_goOver_10 rfl rfl) ?_
    refine kdg (fun k4 => ?_)
    refine bpg (fun s5 he6 => ?_)
    refine im (go_callV (pc := 11) (Y := YX2_goOver) (Yc := YX2_asNow) (y := yX2_asNow) (n := 0) (c0 := 2) (q := (RX2, TX2, 37)) this [] [] rfl rfl k4 (mX2_asNow s0 he6) YOK_X2_asNow rfl q1981 q133 q1980 qs102 q1978 (Nat.le_of_ble_eq_true rfl) (Nat.le_of_ble_eq_true rfl) (Nat.le_of_ble_eq_true rfl) dX2_goOver_11 (st2 := []) rfl) ?_
    clear he6
    refine im (go_aload_n (pc := 14) (Y := YX2_goOver) 0 dX2_goOver_14 rfl rfl) ?_
    refine im (go_iload_n (pc := 15) (Y := YX2_goOver) 1 dX2_goOver_15 rfl rfl) ?_
    refine kdg (fun k7 => ?_)
    refine bpg (fun s8 he9 => ?_)
    refine im (go_callV (pc := 16) (Y := YX2_goOver) (Yc := YX2_runTold) (y := yX2_runTold) (n := 1) (c0 := 2) (q := (RX2, TX2, 37)) this [iV p0] [] rfl rfl k7 (mX2_runTold s5 he9) YOK_X2_runTold rfl q2040 q133 q2039 qs110 q2037 (Nat.le_of_ble_eq_true rfl) (Nat.le_of_ble_eq_true rfl) (Nat.le_of_ble_eq_true rfl) dX2_goOver_16 (st2 := []) rfl) ?_
    clear he9
    refine im (go_iconst (pc := 19) (Y := YX2_goOver) (v := 1) dX2_goOver_19 rfl) ?_
    refine e2 (fun q0 q1 => ?_)
    subst q0
    subst q1
    exact go_zret (pc := 20) (Y := YX2_goOver) rfl rfl dX2_goOver_20
abbrev YX2_ends : mY := (RX2, cX2_ends, 2, (Option.some .int), 6, 138, false)
theorem YOK_X2_ends : YOK yX2_ends 1 := ⟨⟨by decide +kernel, by decide +kernel⟩, by decide +kernel⟩
theorem mX2_ends {G : gG} (s0 : St) {this : Nat} {p0 : Int32} {sE : St} {vE : Int32} (h : sX2_ends s0 this p0 = some (sE, vE)) : Mt G YX2_ends yX2_ends [rV (some this), iV p0] s0 (some (iV vE)) sE := by
  refine go_start (ls0 := [(0, rV (some this)), (1, iV p0)]) (by decide +kernel) rfl (fun h => by cases h) (Nat.le_of_ble_eq_true rfl) rfl ?_
  revert h
  unfold sX2_ends
  refine im (go_aload_n (pc := 0) (Y := YX2_ends) 0 dX2_ends_0 rfl rfl) ?_
  refine kdg (fun k1 => ?_)
  refine bpg (fun s2 he3 => ?_)
  refine im (go_callV (pc := 1) (Y := YX2_ends) (Yc := YX2_good) (y := yX2_good) (n := 0) (c0 := 2) (q := (RX2, TX2, 37)) this [] [] rfl rfl k1 (mX2_good s0 he3) YOK_X2_good rfl q1760 q133 q1759 qs66 q1757 (Nat.le_of_ble_eq_true rfl) (Nat.le_of_ble_eq_true rfl) (Nat.le_of_ble_eq_true rfl) dX2_ends_1 (st2 := []) rfl) ?_
  clear he3
  refine im (go_aload_n (pc := 4) (Y := YX2_ends) 0 dX2_ends_4 rfl rfl) ?_
  refine im (go_iload_n (pc := 5) (Y := YX2_ends) 1 dX2_ends_5 rfl rfl) ?_
  refine kdg (fun k4 => ?_)
  refine bdg (fun s5 v6 he7 => ?_)
  refine im (go_callV (pc := 6) (Y := YX2_ends) (Yc := YX2_goOver) (y := yX2_goOver) (n := 1) (c0 := 2) (q := (RX2, TX2, 37)) this [iV p0] [] rfl rfl k4 (mX2_goOver s2 he7) YOK_X2_goOver rfl q2036 q133 q2035 qs109 q2033 (Nat.le_of_ble_eq_true rfl) (Nat.le_of_ble_eq_true rfl) (Nat.le_of_ble_eq_true rfl) dX2_ends_6 (st2 := [iV v6]) rfl) ?_
  clear he7
  refine flp2 (go_if_eq (pc := 9) (Y := YX2_ends) 19 dX2_ends_9 (by decide)) ?_ ?_
  · refine im (go_aload_n (pc := 19) (Y := YX2_ends) 0 dX2_ends_19 rfl rfl) ?_
    refine im (go_iconst (pc := 20) (Y := YX2_ends) (v := 1) dX2_ends_20 rfl) ?_
    refine kdg (fun k8 => ?_)
    refine bdg (fun s9 v10 he11 => ?_)
    refine im (go_callV (pc := 21) (Y := YX2_ends) (Yc := YX2_no) (y := yX2_no) (n := 1) (c0 := 2) (q := (RX2, TX2, 37)) this [iV 1] [] rfl rfl k8 (mX2_no s5 he11) YOK_X2_no rfl q1767 q133 q1766 qs67 q1764 (Nat.le_of_ble_eq_true rfl) (Nat.le_of_ble_eq_true rfl) (Nat.le_of_ble_eq_true rfl) dX2_ends_21 (st2 := [iV v10]) rfl) ?_
    clear he11
    refine e2 (fun q0 q1 => ?_)
    subst q0
    subst q1
    exact go_iret (pc := 24) (Y := YX2_ends) rfl dX2_ends_24
  · refine im (go_aload_n (pc := 12) (Y := YX2_ends) 0 dX2_ends_12 rfl rfl) ?_
    refine flp (go_gI (pc := 13) (Y := YX2_ends) fF34 (by decide) q1658 (Or.inl rfl) dX2_ends_13) (fun v12 => ?_)
    refine im (go_goto (pc := 16) (Y := YX2_ends) 24 dX2_ends_16 (by decide)) ?_
    refine e2 (fun q0 q1 => ?_)
    subst q0
    subst q1
    exact go_iret (pc := 24) (Y := YX2_ends) rfl dX2_ends_24
abbrev YX2_endsAt : mY := (RX2, cX2_endsAt, 2, (Option.some .int), 6, 138, false)
theorem YOK_X2_endsAt : YOK yX2_endsAt 1 := ⟨⟨by decide +kernel, by decide +kernel⟩, by decide +kernel⟩
theorem mX2_endsAt {G : gG} (s0 : St) {this : Nat} {p0 : Int32} {sE : St} {vE : Int32} (h : sX2_endsAt s0 this p0 = some (sE, vE)) : Mt G YX2_endsAt yX2_endsAt [rV (some this), iV p0] s0 (some (iV vE)) sE := by
  refine go_start (ls0 := [(0, rV (some this)), (1, iV p0)]) (by decide +kernel) rfl (fun h => by cases h) (Nat.le_of_ble_eq_true rfl) rfl ?_
  revert h
  unfold sX2_endsAt
  refine im (go_aload_n (pc := 0) (Y := YX2_endsAt) 0 dX2_endsAt_0 rfl rfl) ?_
  refine kdg (fun k1 => ?_)
  refine bpg (fun s2 he3 => ?_)
  refine im (go_callV (pc := 1) (Y := YX2_endsAt) (Yc := YX2_good) (y := yX2_good) (n := 0) (c0 := 2) (q := (RX2, TX2, 37)) this [] [] rfl rfl k1 (mX2_good s0 he3) YOK_X2_good rfl q1760 q133 q1759 qs66 q1757 (Nat.le_of_ble_eq_true rfl) (Nat.le_of_ble_eq_true rfl) (Nat.le_of_ble_eq_true rfl) dX2_endsAt_1 (st2 := []) rfl) ?_
  clear he3
  refine im (go_aload_n (pc := 4) (Y := YX2_endsAt) 0 dX2_endsAt_4 rfl rfl) ?_
  refine im (go_iload_n (pc := 5) (Y := YX2_endsAt) 1 dX2_endsAt_5 rfl rfl) ?_
  refine kdg (fun k4 => ?_)
  refine bdg (fun s5 v6 he7 => ?_)
  refine im (go_callV (pc := 6) (Y := YX2_endsAt) (Yc := YX2_goOver) (y := yX2_goOver) (n := 1) (c0 := 2) (q := (RX2, TX2, 37)) this [iV p0] [] rfl rfl k4 (mX2_goOver s2 he7) YOK_X2_goOver rfl q2036 q133 q2035 qs109 q2033 (Nat.le_of_ble_eq_true rfl) (Nat.le_of_ble_eq_true rfl) (Nat.le_of_ble_eq_true rfl) dX2_endsAt_6 (st2 := [iV v6]) rfl) ?_
  clear he7
  refine flp2 (go_if_eq (pc := 9) (Y := YX2_endsAt) 19 dX2_endsAt_9 (by decide)) ?_ ?_
  · refine im (go_aload_n (pc := 19) (Y := YX2_endsAt) 0 dX2_endsAt_19 rfl rfl) ?_
    refine im (go_iconst (pc := 20) (Y := YX2_endsAt) (v := 1) dX2_endsAt_20 rfl) ?_
    refine kdg (fun k8 => ?_)
    refine bdg (fun s9 v10 he11 => ?_)
    refine im (go_callV (pc := 21) (Y := YX2_endsAt) (Yc := YX2_no) (y := yX2_no) (n := 1) (c0 := 2) (q := (RX2, TX2, 37)) this [iV 1] [] rfl rfl k8 (mX2_no s5 he11) YOK_X2_no rfl q1767 q133 q1766 qs67 q1764 (Nat.le_of_ble_eq_true rfl) (Nat.le_of_ble_eq_true rfl) (Nat.le_of_ble_eq_true rfl) dX2_endsAt_21 (st2 := [iV v10]) rfl) ?_
    clear he11
    refine e2 (fun q0 q1 => ?_)
    subst q0
    subst q1
    exact go_iret (pc := 24) (Y := YX2_endsAt) rfl dX2_endsAt_24
  · refine im (go_aload_n (pc := 12) (Y := YX2_endsAt) 0 dX2_endsAt_12 rfl rfl) ?_
    refine flp (go_gI (pc := 13) (Y := YX2_endsAt) fF35 (by decide) q1659 (Or.inl rfl) dX2_endsAt_13) (fun v12 => ?_)
    refine im (go_goto (pc := 16) (Y := YX2_endsAt) 24 dX2_endsAt_16 (by decide)) ?_
    refine e2 (fun q0 q1 => ?_)
    subst q0
    subst q1
    exact go_iret (pc := 24) (Y := YX2_endsAt) rfl dX2_endsAt_24
abbrev YX2_lead : mY := (RX2, cX2_lead, 2, (Option.some .int), 6, 138, false)
theorem YOK_X2_lead : YOK yX2_lead 1 := ⟨⟨by decide +kernel, by decide +kernel⟩, by decide +kernel⟩
theorem mX2_lead {G : gG} (s0 : St) {this : Nat} {p0 : Int32} {sE : St} {vE : Int32} (h : sX2_lead s0 this p0 = some (sE, vE)) : Mt G YX2_lead yX2_lead [rV (some this), iV p0] s0 (some (iV vE)) sE := by
  refine go_start (ls0 := [(0, rV (some this)), (1, iV p0)]) (by decide +kernel) rfl (fun h => by cases h) (Nat.le_of_ble_eq_true rfl) rfl ?_
  revert h
  unfold sX2_lead
  refine im (go_aload_n (pc := 0) (Y := YX2_lead) 0 dX2_lead_0 rfl rfl) ?_
  refine kdg (fun k1 => ?_)
  refine bpg (fun s2 he3 => ?_)
  refine im (go_callV (pc := 1) (Y := YX2_lead) (Yc := YX2_good) (y := yX2_good) (n := 0) (c0 := 2) (q := (RX2, TX2, 37)) this [] [] rfl rfl k1 (mX2_good s0 he3) YOK_X2_good rfl q1760 q133 q1759 qs66 q1757 (Nat.le_of_ble_eq_true rfl) (Nat.le_of_ble_eq_true rfl) (Nat.le_of_ble_eq_true rfl) dX2_lead_1 (st2 := []) rfl) ?_
  clear he3
  refine im (go_aload_n (pc := 4) (Y := YX2_lead) 0 dX2_lead_4 rfl rfl) ?_
  refine im (go_iload_n (pc := 5) (Y := YX2_lead) 1 dX2_lead_5 rfl rfl) ?_
  refine kdg (fun k4 => ?_)
  refine bdg (fun s5 v6 he7 => ?_)
  refine im (go_callV (pc := 6) (Y := YX2_lead) (Yc := YX2_goOver) (y := yX2_goOver) (n := 1) (c0 := 2) (q := (RX2, TX2, 37)) this [iV p0] [] rfl rfl k4 (mX2_goOver s2 he7) YOK_X2_goOver rfl q2036 q133 q2035 qs109 q2033 (Nat.le_of_ble_eq_true rfl) (Nat.le_of_ble_eq_true rfl) (Nat.le_of_ble_eq_true rfl) dX2_lead_6 (st2 := [iV v6]) rfl) ?_
  clear he7
  refine flp2 (go_if_eq (pc := 9) (Y := YX2_lead) 23 dX2_lead_9 (by decide)) ?_ ?_
  · refine im (go_aload_n (pc := 23) (Y := YX2_lead) 0 dX2_lead_23 rfl rfl) ?_
    refine im (go_iconst (pc := 24) (Y := YX2_lead) (v := 1) dX2_lead_24 rfl) ?_
    refine kdg (fun k8 => ?_)
    refine bdg (fun s9 v10 he11 => ?_)
    refine im (go_callV (pc := 25) (Y := YX2_lead) (Yc := YX2_no) (y := yX2_no) (n := 1) (c0 := 2) (q := (RX2, TX2, 37)) this [iV 1] [] rfl rfl k8 (mX2_no s5 he11) YOK_X2_no rfl q1767 q133 q1766 qs67 q1764 (Nat.le_of_ble_eq_true rfl) (Nat.le_of_ble_eq_true rfl) (Nat.le_of_ble_eq_true rfl) dX2_lead_25 (st2 := [iV v10]) rfl) ?_
    clear he11
    refine e2 (fun q0 q1 => ?_)
    subst q0
    subst q1
    exact go_iret (pc := 28) (Y := YX2_lead) rfl dX2_lead_28
  · refine im (go_aload_n (pc := 12) (Y := YX2_lead) 0 dX2_lead_12 rfl rfl) ?_
    refine flp (go_gI (pc := 13) (Y := YX2_lead) fF36 (by decide) q1660 (Or.inl rfl) dX2_lead_13) (fun v12 => ?_)
    refine im (go_sipush (pc := 16) (Y := YX2_lead) (v := 1000) dX2_lead_16 rfl) ?_
    refine im (go_iadd (pc := 19) (Y := YX2_lead) dX2_lead_19) ?_
    refine im (go_goto (pc := 20) (Y := YX2_lead) 28 dX2_lead_20 (by decide)) ?_
    refine e2 (fun q0 q1 => ?_)
    subst q0
    subst q1
    exact go_iret (pc := 28) (Y := YX2_lead) rfl dX2_lead_28
abbrev YX2_seen : mY := (RX2, cX2_seen, 2, (Option.some .int), 6, 138, false)
theorem YOK_X2_seen : YOK yX2_seen 1 := ⟨⟨by decide +kernel, by decide +kernel⟩, by decide +kernel⟩
theorem mX2_seen {G : gG} (s0 : St) {this : Nat} {p0 : Int32} {sE : St} {vE : Int32} (h : sX2_seen s0 this p0 = some (sE, vE)) : Mt G YX2_seen yX2_seen [rV (some this), iV p0] s0 (some (iV vE)) sE := by
  refine go_start (ls0 := [(0, rV (some this)), (1, iV p0)]) (by decide +kernel) rfl (fun h => by cases h) (Nat.le_of_ble_eq_true rfl) rfl ?_
  revert h
  unfold sX2_seen
  refine im (go_aload_n (pc := 0) (Y := YX2_seen) 0 dX2_seen_0 rfl rfl) ?_
  refine kdg (fun k1 => ?_)
  refine bpg (fun s2 he3 => ?_)
  refine im (go_callV (pc := 1) (Y := YX2_seen) (Yc := YX2_good) (y := yX2_good) (n := 0) (c0 := 2) (q := (RX2, TX2, 37)) this [] [] rfl rfl k1 (mX2_good s0 he3) YOK_X2_good rfl q1760 q133 q1759 qs66 q1757 (Nat.le_of_ble_eq_true rfl) (Nat.le_of_ble_eq_true rfl) (Nat.le_of_ble_eq_true rfl) dX2_seen_1 (st2 := []) rfl) ?_
  clear he3
  refine im (go_aload_n (pc := 4) (Y := YX2_seen) 0 dX2_seen_4 rfl rfl) ?_
  refine im (go_iload_n (pc := 5) (Y := YX2_seen) 1 dX2_seen_5 rfl rfl) ?_
  refine kdg (fun k4 => ?_)
  refine bdg (fun s5 v6 he7 => ?_)
  refine im (go_callV (pc := 6) (Y := YX2_seen) (Yc := YX2_goOver) (y := yX2_goOver) (n := 1) (c0 := 2) (q := (RX2, TX2, 37)) this [iV p0] [] rfl rfl k4 (mX2_goOver s2 he7) YOK_X2_goOver rfl q2036 q133 q2035 qs109 q2033 (Nat.le_of_ble_eq_true rfl) (Nat.le_of_ble_eq_true rfl) (Nat.le_of_ble_eq_true rfl) dX2_seen_6 (st2 := [iV v6]) rfl) ?_
  clear he7
  refine flp2 (go_if_eq (pc := 9) (Y := YX2_seen) 19 dX2_seen_9 (by decide)) ?_ ?_
  · refine im (go_aload_n (pc := 19) (Y := YX2_seen) 0 dX2_seen_19 rfl rfl) ?_
    refine im (go_iconst (pc := 20) (Y := YX2_seen) (v := 1) dX2_seen_20 rfl) ?_
    refine kdg (fun k8 => ?_)
    refine bdg (fun s9 v10 he11 => ?_)
    refine im (go_callV (pc := 21) (Y := YX2_seen) (Yc := YX2_no) (y := yX2_no) (n := 1) (c0 := 2) (q := (RX2, TX2, 37)) this [iV 1] [] rfl rfl k8 (mX2_no s5 he11) YOK_X2_no rfl q1767 q133 q1766 qs67 q1764 (Nat.le_of_ble_eq_true rfl) (Nat.le_of_ble_eq_true rfl) (Nat.le_of_ble_eq_true rfl) dX2_seen_21 (st2 := [iV v10]) rfl) ?_
    clear he11
    refine e2 (fun q0 q1 => ?_)
    subst q0
    subst q1
    exact go_iret (pc := 24) (Y := YX2_seen) rfl dX2_seen_24
  · refine im (go_aload_n (pc := 12) (Y := YX2_seen) 0 dX2_seen_12 rfl rfl) ?_
    refine flp (go_gI (pc := 13) (Y := YX2_seen) fF37 (by decide) q1661 (Or.inl rfl) dX2_seen_13) (fun v12 => ?_)
    refine im (go_goto (pc := 16) (Y := YX2_seen) 24 dX2_seen_16 (by decide)) ?_
    refine e2 (fun q0 q1 => ?_)
    subst q0
    subst q1
    exact go_iret (pc := 24) (Y := YX2_seen) rfl dX2_seen_24
abbrev YX2_third : mY := (RX2, cX2_third, 3, (Option.some .int), 6, 138, false)
theorem YOK_X2_third : YOK yX2_third 1 := ⟨⟨by decide +kernel, by decide +kernel⟩, by decide +kernel⟩
theorem sX2_third_L20_go {G : gG} {s0 : St} {sE : St} {vE : Int32} (s12 : St) (this : Nat) : ∀ (n : Nat) (v13 : Int32) (o : (St × Int32) ⊕ (Unit)), sX2_third_L20 s12 this n v13 = some o → (∀ r, o = .inl r → r = (sE, vE)) → (∀ (_ : Unit), o = .inr () → Go G YX2_third s0 sE (some (iV vE)) 63 [] [] s12) → Go G YX2_third s0 sE (some (iV vE)) 20 [(0, rV (some this)), (2, iV v13)] [] s12 := by
  intro n
  induction n with
  | zero => intro v13 o h hr hx; rw [sX2_third_L20] at h; cases h
  | succ n ih =>
    intro v13 o h hr hx
    revert h
    rw [sX2_third_L20]
    refine im (go_iload_n (pc := 20) (Y := YX2_third) 1 dX2_third_20 rfl rfl) ?_
    refine im (go_aload_n (pc := 21) (Y := YX2_third) 0 dX2_third_21 rfl rfl) ?_
    refine flp (go_gR (pc := 22) (Y := YX2_third) fF1011 (by decide) q1648 (Or.inl rfl) dX2_third_22) (fun v14 => ?_)
    refine im (go_iconst (pc := 25) (Y := YX2_third) (v := 3) dX2_third_25 rfl) ?_
    refine flp (go_lI1 (pc := 26) (Y := YX2_third) dX2_third_26) (fun v15 => ?_)
    refine flp2 (go_icmp_ge (pc := 27) (Y := YX2_third) 63 dX2_third_27 (by decide)) ?_ ?_
    · refine eor (fun hq => ?_)
      exact go_sub [] rfl (hx () hq)
    · refine im (go_aload_n (pc := 30) (Y := YX2_third) 0 dX2_third_30 rfl rfl) ?_
      refine flp (go_gI (pc := 31) (Y := YX2_third) fF34 (by decide) q1658 (Or.inl rfl) dX2_third_31) (fun v16 => ?_)
      refine flp2 (go_if_ne (pc := 34) (Y := YX2_third) 63 dX2_third_34 (by decide)) ?_ ?_
      · refine im (go_aload_n (pc := 37) (Y := YX2_third) 0 dX2_third_37 rfl rfl) ?_
        refine flp (go_gI (pc := 38) (Y := YX2_third) fF37 (by decide) q1661 (Or.inl rfl) dX2_third_38) (fun v17 => ?_)
        refine im (go_aload_n (pc := 41) (Y := YX2_third) 0 dX2_third_41 rfl rfl) ?_
        refine flp (go_gI (pc := 42) (Y := YX2_third) fF38 (by decide) q1662 (Or.inl rfl) dX2_third_42) (fun v18 => ?_)
        refine im (go_iconst (pc := 45) (Y := YX2_third) (v := -1) dX2_third_45 rfl) ?_
        refine im (go_ixor (pc := 46) (Y := YX2_third) dX2_third_46) ?_
        refine im (go_iand (pc := 47) (Y := YX2_third) dX2_third_47) ?_
        refine im (go_iload_n (pc := 48) (Y := YX2_third) 1 dX2_third_48 rfl rfl) ?_
        refine bpg (fun v19 he20 => ?_)
        refine im (go_callS (pc := 49) (Y := YX2_third) (Yc := YX2_hasBit) (y := yX2_hasBit) (n := 2) [iV (v17 &&& (v18 ^^^ (-1))), iV v13] [] rfl (mX2_hasBit s12 he20) YOK_X2_hasBit rfl q2000 q133 q1999 q1998 (Nat.le_of_ble_eq_true rfl) (Nat.le_of_ble_eq_true rfl) (Nat.le_of_ble_eq_true rfl) dX2_third_49 (st2 := [iV v19]) rfl) ?_
        clear he20
        refine flp2 (go_if_eq (pc := 52) (Y := YX2_third) 57 dX2_third_52 (by decide)) ?_ ?_
        · refine im (go_iinc (pc := 57) (Y := YX2_third) 1 (v := (v13 + 1)) (ls2 := [(2, iV (v13 + 1)), (0, rV (some this))]) dX2_third_57 rfl rfl (Nat.le_of_ble_eq_true rfl) rfl) ?_
          refine im (go_goto (pc := 60) (Y := YX2_third) 20 dX2_third_60 (by decide)) ?_
          exact fun hq => go_sub [1, 0] rfl (ih _ _ hq hr hx)
        · refine im (go_iload_n (pc := 55) (Y := YX2_third) 1 dX2_third_55 rfl rfl) ?_
          refine eor (fun hq => ?_)
          have hq2 := hr _ hq
          obtain ⟨q0, q1⟩ := Prod.mk.inj hq2
          subst q0
          subst q1
          exact go_iret (pc := 56) (Y := YX2_third) rfl dX2_third_56
      · refine eor (fun hq => ?_)
        exact go_sub [] rfl (hx () hq)
theorem mX2_third {G : gG} (s0 : St) {this : Nat} {p0 : Int32} {sE : St} {vE : Int32} (h : sX2_third s0 this p0 = some (sE, vE)) : Mt G YX2_third yX2_third [rV (some this), iV p0] s0 (some (iV vE)) sE := by
  refine go_start (ls0 := [(0, rV (some this)), (1, iV p0)]) (by decide +kernel) rfl (fun h => by cases h) (Nat.le_of_ble_eq_true rfl) rfl ?_
  revert h
  unfold sX2_third
  refine im (go_aload_n (pc := 0) (Y := YX2_third) 0 dX2_third_0 rfl rfl) ?_
  refine kdg (fun k1 => ?_)
  refine bpg (fun s2 he3 => ?_)
  refine im (go_callV (pc := 1) (Y := YX2_third) (Yc := YX2_good) (y := yX2_good) (n := 0) (c0 := 2) (q := (RX2, TX2, 37)) this [] [] rfl rfl k1 (mX2_good s0 he3) YOK_X2_good rfl q1760 q133 q1759 qs66 q1757 (Nat.le_of_ble_eq_true rfl) (Nat.le_of_ble_eq_true rfl) (Nat.le_of_ble_eq_true rfl) dX2_third_1 (st2 := []) rfl) ?_
  clear he3
  refine im (go_aload_n (pc := 4) (Y := YX2_third) 0 dX2_third_4 rfl rfl) ?_
  refine im (go_iload_n (pc := 5) (Y := YX2_third) 1 dX2_third_5 rfl rfl) ?_
  refine kdg (fun k4 => ?_)
  refine bdg (fun s5 v6 he7 => ?_)
  refine im (go_callV (pc := 6) (Y := YX2_third) (Yc := YX2_goOver) (y := yX2_goOver) (n := 1) (c0 := 2) (q := (RX2, TX2, 37)) this [iV p0] [] rfl rfl k4 (mX2_goOver s2 he7) YOK_X2_goOver rfl q2036 q133 q2035 qs109 q2033 (Nat.le_of_ble_eq_true rfl) (Nat.le_of_ble_eq_true rfl) (Nat.le_of_ble_eq_true rfl) dX2_third_6 (st2 := [iV v6]) rfl) ?_
  clear he7
  refine flp2 (go_if_ne (pc := 9) (Y := YX2_third) 18 dX2_third_9 (by decide)) ?_ ?_
  · refine im (go_aload_n (pc := 12) (Y := YX2_third) 0 dX2_third_12 rfl rfl) ?_
    refine im (go_iconst (pc := 13) (Y := YX2_third) (v := 1) dX2_third_13 rfl) ?_
    refine kdg (fun k8 => ?_)
    refine bdg (fun s9 v10 he11 => ?_)
    refine im (go_callV (pc := 14) (Y := YX2_third) (Yc := YX2_no) (y := yX2_no) (n := 1) (c0 := 2) (q := (RX2, TX2, 37)) this [iV 1] [] rfl rfl k8 (mX2_no s5 he11) YOK_X2_no rfl q1767 q133 q1766 qs67 q1764 (Nat.le_of_ble_eq_true rfl) (Nat.le_of_ble_eq_true rfl) (Nat.le_of_ble_eq_true rfl) dX2_third_14 (st2 := [iV v10]) rfl) ?_
    clear he11
    refine e2 (fun q0 q1 => ?_)
    subst q0
    subst q1
    exact go_iret (pc := 17) (Y := YX2_third) rfl dX2_third_17
  · refine im (go_iconst (pc := 18) (Y := YX2_third) (v := 0) dX2_third_18 rfl) ?_
    refine im (go_istore_n (pc := 19) (Y := YX2_third) (ls2 := [(2, iV 0), (0, rV (some this)), (1, iV p0)]) dX2_third_19 rfl (Nat.le_of_ble_eq_true rfl) rfl) ?_
    refine lcg (fun o24 he21 h22 => ?_)
    refine go_sub [1, 0] rfl (sX2_third_L20_go s5 this FU _ _ he21 h22.1 (fun _ hq => ?_))
    have hw := h22.2 () hq
    clear he21
    revert hw
    refine im (go_bipush (pc := 63) (Y := YX2_third) (v := -2) dX2_third_63 rfl) ?_
    refine e2 (fun q0 q1 => ?_)
    subst q0
    subst q1
    exact go_iret (pc := 65) (Y := YX2_third) rfl dX2_third_65
abbrev YX2_won : mY := (RX2, cX2_won, 3, (Option.some .int), 6, 138, false)
theorem YOK_X2_won : YOK yX2_won 0 := ⟨⟨by decide +kernel, by decide +kernel⟩, by decide +kernel⟩
theorem sX2_won_L21_go {G : gG} {s0 sE : St} {rE : Option V3} (this : Nat) : ∀ (n : Nat) (s9 : St) (v10 : Int32) (v11 : Int32) (s12 : St) (v13 : Int32), sX2_won_L21 this n s9 v10 v11 = some (s12, v13) → Go G YX2_won s0 sE rE 62 [(1, iV v13)] [] s12 → Go G YX2_won s0 sE rE 21 [(0, rV (some this)), (1, iV v10), (2, iV v11)] [] s9 := by
  intro n
  induction n with
  | zero => intro s9 v10 v11 s12 v13 h hx; rw [sX2_won_L21] at h; cases h
  | succ n ih =>
    intro s9 v10 v11 s12 v13 h hx
    revert h
    rw [sX2_won_L21]
    refine im (go_iload_n (pc := 21) (Y := YX2_won) 2 dX2_won_21 rfl rfl) ?_
    refine im (go_aload_n (pc := 22) (Y := YX2_won) 0 dX2_won_22 rfl rfl) ?_
    refine flp (go_gR (pc := 23) (Y := YX2_won) fF1011 (by decide) q1648 (Or.inl rfl) dX2_won_23) (fun v14 => ?_)
    refine im (go_iconst (pc := 26) (Y := YX2_won) (v := 5) dX2_won_26 rfl) ?_
    refine flp (go_lI1 (pc := 27) (Y := YX2_won) dX2_won_27) (fun v15 => ?_)
    refine flp2 (go_icmp_ge (pc := 28) (Y := YX2_won) 62 dX2_won_28 (by decide)) ?_ ?_
    · refine e2 (fun q0 q1 => ?_)
      subst q0
      subst q1
      exact go_sub [1] rfl hx
    · refine im (go_iload_n (pc := 31) (Y := YX2_won) 1 dX2_won_31 rfl rfl) ?_
      refine im (go_aload_n (pc := 32) (Y := YX2_won) 0 dX2_won_32 rfl rfl) ?_
      refine im (go_iload_n (pc := 33) (Y := YX2_won) 2 dX2_won_33 rfl rfl) ?_
      refine kdg (fun k16 => ?_)
      refine bdg (fun s17 v18 he19 => ?_)
      refine im (go_callV (pc := 34) (Y := YX2_won) (Yc := YX2_goOver) (y := yX2_goOver) (n := 1) (c0 := 2) (q := (RX2, TX2, 37)) this [iV v11] [iV v10] rfl rfl k16 (mX2_goOver s9 he19) YOK_X2_goOver rfl q2036 q133 q2035 qs109 q2033 (Nat.le_of_ble_eq_true rfl) (Nat.le_of_ble_eq_true rfl) (Nat.le_of_ble_eq_true rfl) dX2_won_34 (st2 := [iV v18, iV v10]) rfl) ?_
      clear he19
      refine bpg (fun v20 he22 h23 => ?_)
      have hj54 : Go G YX2_won s0 sE rE 54 [(0, rV (some this)), (2, iV v11)] [iV v20, iV v10] s17 := by
        clear he22
        revert h23
        refine im (go_ior (pc := 54) (Y := YX2_won) dX2_won_54) ?_
        refine im (go_istore_n (pc := 55) (Y := YX2_won) (ls2 := [(1, iV (v10 ||| v20)), (0, rV (some this)), (2, iV v11)]) dX2_won_55 rfl (Nat.le_of_ble_eq_true rfl) rfl) ?_
        refine im (go_iinc (pc := 56) (Y := YX2_won) 2 (v := (v11 + 1)) (ls2 := [(2, iV (v11 + 1)), (1, iV (v10 ||| v20)), (0, rV (some this))]) dX2_won_56 rfl rfl (Nat.le_of_ble_eq_true rfl) rfl) ?_
        refine im (go_goto (pc := 59) (Y := YX2_won) 21 dX2_won_59 (by decide)) ?_
        exact fun hq => go_sub [2, 1, 0] rfl (ih _ _ _ _ _ hq hx)
      clear h23
      revert he22
      refine flp2 (go_if_eq (pc := 37) (Y := YX2_won) 53 dX2_won_37 (by decide)) ?_ ?_
      · refine im (go_iconst (pc := 53) (Y := YX2_won) (v := 0) dX2_won_53 rfl) ?_
        refine e1 (fun q0 => ?_)
        subst q0
        exact go_sub [0, 2] rfl hj54
      · refine im (go_aload_n (pc := 40) (Y := YX2_won) 0 dX2_won_40 rfl rfl) ?_
        refine flp (go_gI (pc := 41) (Y := YX2_won) fF34 (by decide) q1658 (Or.inl rfl) dX2_won_41) (fun v21 => ?_)
        refine flp2 (go_if_le (pc := 44) (Y := YX2_won) 53 dX2_won_44 (by decide)) ?_ ?_
        · refine im (go_iconst (pc := 53) (Y := YX2_won) (v := 0) dX2_won_53 rfl) ?_
          refine e1 (fun q0 => ?_)
          subst q0
          exact go_sub [0, 2] rfl hj54
        · refine im (go_iconst (pc := 47) (Y := YX2_won) (v := 1) dX2_won_47 rfl) ?_
          refine im (go_iload_n (pc := 48) (Y := YX2_won) 2 dX2_won_48 rfl rfl) ?_
          refine im (go_ishl (pc := 49) (Y := YX2_won) dX2_won_49) ?_
          refine im (go_goto (pc := 50) (Y := YX2_won) 54 dX2_won_50 (by decide)) ?_
          refine e1 (fun q0 => ?_)
          subst q0
          exact go_sub [0, 2] rfl hj54
theorem mX2_won {G : gG} (s0 : St) {this : Nat} {sE : St} {vE : Int32} (h : sX2_won s0 this = some (sE, vE)) : Mt G YX2_won yX2_won [rV (some this)] s0 (some (iV vE)) sE := by
  refine go_start (ls0 := [(0, rV (some this))]) (by decide +kernel) rfl (fun h => by cases h) (Nat.le_of_ble_eq_true rfl) rfl ?_
  revert h
  unfold sX2_won
  refine im (go_aload_n (pc := 0) (Y := YX2_won) 0 dX2_won_0 rfl rfl) ?_
  refine kdg (fun k1 => ?_)
  refine bpg (fun s2 he3 => ?_)
  refine im (go_callV (pc := 1) (Y := YX2_won) (Yc := YX2_good) (y := yX2_good) (n := 0) (c0 := 2) (q := (RX2, TX2, 37)) this [] [] rfl rfl k1 (mX2_good s0 he3) YOK_X2_good rfl q1760 q133 q1759 qs66 q1757 (Nat.le_of_ble_eq_true rfl) (Nat.le_of_ble_eq_true rfl) (Nat.le_of_ble_eq_true rfl) dX2_won_1 (st2 := []) rfl) ?_
  clear he3
  refine im (go_aload_n (pc := 4) (Y := YX2_won) 0 dX2_won_4 rfl rfl) ?_
  refine flp (go_gI (pc := 5) (Y := YX2_won) fF31 (by decide) q1647 (Or.inl rfl) dX2_won_5) (fun v4 => ?_)
  refine flp2 (go_if_ne (pc := 8) (Y := YX2_won) 17 dX2_won_8 (by decide)) ?_ ?_
  · refine im (go_aload_n (pc := 11) (Y := YX2_won) 0 dX2_won_11 rfl rfl) ?_
    refine im (go_iconst (pc := 12) (Y := YX2_won) (v := 1) dX2_won_12 rfl) ?_
    refine kdg (fun k5 => ?_)
    refine bdg (fun s6 v7 he8 => ?_)
    refine im (go_callV (pc := 13) (Y := YX2_won) (Yc := YX2_no) (y := yX2_no) (n := 1) (c0 := 2) (q := (RX2, TX2, 37)) this [iV 1] [] rfl rfl k5 (mX2_no s2 he8) YOK_X2_no rfl q1767 q133 q1766 qs67 q1764 (Nat.le_of_ble_eq_true rfl) (Nat.le_of_ble_eq_true rfl) (Nat.le_of_ble_eq_true rfl) dX2_won_13 (st2 := [iV v7]) rfl) ?_
    clear he8
    refine e2 (fun q0 q1 => ?_)
    subst q0
    subst q1
    exact go_iret (pc := 16) (Y := YX2_won) rfl dX2_won_16
  · refine im (go_iconst (pc := 17) (Y := YX2_won) (v := 0) dX2_won_17 rfl) ?_
    refine im (go_istore_n (pc := 18) (Y := YX2_won) (ls2 := [(1, iV 0), (0, rV (some this))]) dX2_won_18 rfl (Nat.le_of_ble_eq_true rfl) rfl) ?_
    refine im (go_iconst (pc := 19) (Y := YX2_won) (v := 0) dX2_won_19 rfl) ?_
    refine im (go_istore_n (pc := 20) (Y := YX2_won) (ls2 := [(2, iV 0), (1, iV 0), (0, rV (some this))]) dX2_won_20 rfl (Nat.le_of_ble_eq_true rfl) rfl) ?_
    refine b2g (fun s24 v25 he26 h27 => ?_)
    refine go_sub [2, 1, 0] rfl (sX2_won_L21_go this FU _ _ _ _ _ he26 ?_)
    clear he26
    revert h27
    refine im (go_iload_n (pc := 62) (Y := YX2_won) 0 dX2_won_62 rfl rfl) ?_
    refine e2 (fun q0 q1 => ?_)
    subst q0
    subst q1
    exact go_iret (pc := 63) (Y := YX2_won) rfl dX2_won_63
abbrev YX2_stopped : mY := (RX2, cX2_stopped, 3, (Option.some .int), 5, 117, false)
theorem YOK_X2_stopped : YOK yX2_stopped 0 := ⟨⟨by decide +kernel, by decide +kernel⟩, by decide +kernel⟩
theorem sX2_stopped_L4_go {G : gG} {s0 sE : St} {rE : Option V3} (this : Nat) : ∀ (n : Nat) (s1 : St) (v2 : Int32) (v3 : Int32) (s4 : St) (v5 : Int32), sX2_stopped_L4 this n s1 v2 v3 = some (s4, v5) → Go G YX2_stopped s0 sE rE 42 [(1, iV v5)] [] s4 → Go G YX2_stopped s0 sE rE 4 [(0, rV (some this)), (1, iV v2), (2, iV v3)] [] s1 := by
  intro n
  induction n with
  | zero => intro s1 v2 v3 s4 v5 h hx; rw [sX2_stopped_L4] at h; cases h
  | succ n ih =>
    intro s1 v2 v3 s4 v5 h hx
    revert h
    rw [sX2_stopped_L4]
    refine im (go_iload_n (pc := 4) (Y := YX2_stopped) 2 dX2_stopped_4 rfl rfl) ?_
    refine im (go_aload_n (pc := 5) (Y := YX2_stopped) 0 dX2_stopped_5 rfl rfl) ?_
    refine flp (go_gR (pc := 6) (Y := YX2_stopped) fF1011 (by decide) q1648 (Or.inl rfl) dX2_stopped_6) (fun v6 => ?_)
    refine im (go_iconst (pc := 9) (Y := YX2_stopped) (v := 5) dX2_stopped_9 rfl) ?_
    refine flp (go_lI1 (pc := 10) (Y := YX2_stopped) dX2_stopped_10) (fun v7 => ?_)
    refine flp2 (go_icmp_ge (pc := 11) (Y := YX2_stopped) 42 dX2_stopped_11 (by decide)) ?_ ?_
    · refine e2 (fun q0 q1 => ?_)
      subst q0
      subst q1
      exact go_sub [1] rfl hx
    · refine im (go_aload_n (pc := 14) (Y := YX2_stopped) 0 dX2_stopped_14 rfl rfl) ?_
      refine im (go_iload_n (pc := 15) (Y := YX2_stopped) 2 dX2_stopped_15 rfl rfl) ?_
      refine kdg (fun k8 => ?_)
      refine bpg (fun s9 he10 => ?_)
      refine im (go_callV (pc := 16) (Y := YX2_stopped) (Yc := YX2_runTold) (y := yX2_runTold) (n := 1) (c0 := 2) (q := (RX2, TX2, 37)) this [iV v3] [] rfl rfl k8 (mX2_runTold s1 he10) YOK_X2_runTold rfl q2040 q133 q2039 qs110 q2037 (Nat.le_of_ble_eq_true rfl) (Nat.le_of_ble_eq_true rfl) (Nat.le_of_ble_eq_true rfl) dX2_stopped_16 (st2 := []) rfl) ?_
      clear he10
      refine im (go_iload_n (pc := 19) (Y := YX2_stopped) 1 dX2_stopped_19 rfl rfl) ?_
      refine im (go_aload_n (pc := 20) (Y := YX2_stopped) 0 dX2_stopped_20 rfl rfl) ?_
      refine flp (go_gI (pc := 21) (Y := YX2_stopped) fF34 (by decide) q1658 (Or.inl rfl) dX2_stopped_21) (fun v11 => ?_)
      refine bpg (fun v12 he13 h14 => ?_)
      have hj34 : Go G YX2_stopped s0 sE rE 34 [(0, rV (some this)), (2, iV v3)] [iV v12, iV v2] s9 := by
        clear he13
        revert h14
        refine im (go_ior (pc := 34) (Y := YX2_stopped) dX2_stopped_34) ?_
        refine im (go_istore_n (pc := 35) (Y := YX2_stopped) (ls2 := [(1, iV (v2 ||| v12)), (0, rV (some this)), (2, iV v3)]) dX2_stopped_35 rfl (Nat.le_of_ble_eq_true rfl) rfl) ?_
        refine im (go_iinc (pc := 36) (Y := YX2_stopped) 2 (v := (v3 + 1)) (ls2 := [(2, iV (v3 + 1)), (1, iV (v2 ||| v12)), (0, rV (some this))]) dX2_stopped_36 rfl rfl (Nat.le_of_ble_eq_true rfl) rfl) ?_
        refine im (go_goto (pc := 39) (Y := YX2_stopped) 4 dX2_stopped_39 (by decide)) ?_
        exact fun hq => go_sub [2, 1, 0] rfl (ih _ _ _ _ _ hq hx)
      clear h14
      revert he13
      refine flp2 (go_if_ne (pc := 24) (Y := YX2_stopped) 33 dX2_stopped_24 (by decide)) ?_ ?_
      · refine im (go_iconst (pc := 27) (Y := YX2_stopped) (v := 1) dX2_stopped_27 rfl) ?_
        refine im (go_iload_n (pc := 28) (Y := YX2_stopped) 2 dX2_stopped_28 rfl rfl) ?_
        refine im (go_ishl (pc := 29) (Y := YX2_stopped) dX2_stopped_29) ?_
        refine im (go_goto (pc := 30) (Y := YX2_stopped) 34 dX2_stopped_30 (by decide)) ?_
        refine e1 (fun q0 => ?_)
        subst q0
        exact go_sub [0, 2] rfl hj34
      · refine im (go_iconst (pc := 33) (Y := YX2_stopped) (v := 0) dX2_stopped_33 rfl) ?_
        refine e1 (fun q0 => ?_)
        subst q0
        exact go_sub [0, 2] rfl hj34
theorem mX2_stopped {G : gG} (s0 : St) {this : Nat} {sE : St} {vE : Int32} (h : sX2_stopped s0 this = some (sE, vE)) : Mt G YX2_stopped yX2_stopped [rV (some this)] s0 (some (iV vE)) sE := by
  refine go_start (ls0 := [(0, rV (some this))]) (by decide +kernel) rfl (fun h => by cases h) (Nat.le_of_ble_eq_true rfl) rfl ?_
  revert h
  unfold sX2_stopped
  refine im (go_iconst (pc := 0) (Y := YX2_stopped) (v := 0) dX2_stopped_0 rfl) ?_
  refine im (go_istore_n (pc := 1) (Y := YX2_stopped) (ls2 := [(1, iV 0), (0, rV (some this))]) dX2_stopped_1 rfl (Nat.le_of_ble_eq_true rfl) rfl) ?_
  refine im (go_iconst (pc := 2) (Y := YX2_stopped) (v := 0) dX2_stopped_2 rfl) ?_
  refine im (go_istore_n (pc := 3) (Y := YX2_stopped) (ls2 := [(2, iV 0), (1, iV 0), (0, rV (some this))]) dX2_stopped_3 rfl (Nat.le_of_ble_eq_true rfl) rfl) ?_
  refine b2g (fun s15 v16 he17 h18 => ?_)
  refine go_sub [2, 1, 0] rfl (sX2_stopped_L4_go this FU _ _ _ _ _ he17 ?_)
  clear he17
  revert h18
  refine im (go_iload_n (pc := 42) (Y := YX2_stopped) 0 dX2_stopped_42 rfl rfl) ?_
  refine e2 (fun q0 q1 => ?_)
  subst q0
  subst q1
  exact go_iret (pc := 43) (Y := YX2_stopped) rfl dX2_stopped_43
abbrev YX2_ones : mY := (RX2, cX2_ones, 3, (Option.some .int), 0, 0, false)
theorem YOK_X2_ones : YOK yX2_ones 1 := ⟨⟨by decide +kernel, by decide +kernel⟩, by decide +kernel⟩
theorem sX2_ones_L4_go {G : gG} {s0 sE : St} {rE : Option V3} (s1 : St) (i0 : Int32) : ∀ (n : Nat) (v2 : Int32) (v3 : Int32) (v4 : Int32), sX2_ones_L4 i0 n v2 v3 = some v4 → Go G YX2_ones s0 sE rE 24 [(1, iV v4)] [] s1 → Go G YX2_ones s0 sE rE 4 [(0, iV i0), (1, iV v2), (2, iV v3)] [] s1 := by
  intro n
  induction n with
  | zero => intro v2 v3 v4 h hx; rw [sX2_ones_L4] at h; cases h
  | succ n ih =>
    intro v2 v3 v4 h hx
    revert h
    rw [sX2_ones_L4]
    refine im (go_iload_n (pc := 4) (Y := YX2_ones) 2 dX2_ones_4 rfl rfl) ?_
    refine im (go_bipush (pc := 5) (Y := YX2_ones) (v := 8) dX2_ones_5 rfl) ?_
    refine flp2 (go_icmp_ge (pc := 7) (Y := YX2_ones) 24 dX2_ones_7 (by decide)) ?_ ?_
    · refine e1 (fun q0 => ?_)
      subst q0
      exact go_sub [1] rfl hx
    · refine im (go_iload_n (pc := 10) (Y := YX2_ones) 1 dX2_ones_10 rfl rfl) ?_
      refine im (go_iload_n (pc := 11) (Y := YX2_ones) 0 dX2_ones_11 rfl rfl) ?_
      refine im (go_iload_n (pc := 12) (Y := YX2_ones) 2 dX2_ones_12 rfl rfl) ?_
      refine im (go_ishr (pc := 13) (Y := YX2_ones) dX2_ones_13) ?_
      refine im (go_iconst (pc := 14) (Y := YX2_ones) (v := 1) dX2_ones_14 rfl) ?_
      refine im (go_iand (pc := 15) (Y := YX2_ones) dX2_ones_15) ?_
      refine im (go_iadd (pc := 16) (Y := YX2_ones) dX2_ones_16) ?_
      refine im (go_istore_n (pc := 17) (Y := YX2_ones) (ls2 := [(1, iV (v2 + ((i0 >>> (v3 &&& 31)) &&& 1))), (0, iV i0), (2, iV v3)]) dX2_ones_17 rfl (Nat.le_of_ble_eq_true rfl) rfl) ?_
      refine im (go_iinc (pc := 18) (Y := YX2_ones) 2 (v := (v3 + 1)) (ls2 := [(2, iV (v3 + 1)), (1, iV (v2 + ((i0 >>> (v3 &&& 31)) &&& 1))), (0, iV i0)]) dX2_ones_18 rfl rfl (Nat.le_of_ble_eq_true rfl) rfl) ?_
      refine im (go_goto (pc := 21) (Y := YX2_ones) 4 dX2_ones_21 (by decide)) ?_
      exact fun hq => go_sub [2, 1, 0] rfl (ih _ _ _ hq hx)
theorem mX2_ones {G : gG} (s0 : St) {p0 : Int32} {vE : Int32} (h : sX2_ones s0 p0 = some vE) : Mt G YX2_ones yX2_ones [iV p0] s0 (some (iV vE)) s0 := by
  refine go_start (ls0 := [(0, iV p0)]) (by decide +kernel) rfl (fun h => by cases h) (Nat.le_of_ble_eq_true rfl) rfl ?_
  revert h
  unfold sX2_ones
  refine im (go_iconst (pc := 0) (Y := YX2_ones) (v := 0) dX2_ones_0 rfl) ?_
  refine im (go_istore_n (pc := 1) (Y := YX2_ones) (ls2 := [(1, iV 0), (0, iV p0)]) dX2_ones_1 rfl (Nat.le_of_ble_eq_true rfl) rfl) ?_
  refine im (go_iconst (pc := 2) (Y := YX2_ones) (v := 0) dX2_ones_2 rfl) ?_
  refine im (go_istore_n (pc := 3) (Y := YX2_ones) (ls2 := [(2, iV 0), (1, iV 0), (0, iV p0)]) dX2_ones_3 rfl (Nat.le_of_ble_eq_true rfl) rfl) ?_
  refine bpg (fun v5 he6 h7 => ?_)
  refine go_sub [2, 1, 0] rfl (sX2_ones_L4_go s0 p0 FU _ _ _ he6 ?_)
  clear he6
  revert h7
  refine im (go_iload_n (pc := 24) (Y := YX2_ones) 0 dX2_ones_24 rfl rfl) ?_
  refine e1 (fun q0 => ?_)
  subst q0
  exact go_iret (pc := 25) (Y := YX2_ones) rfl dX2_ones_25
abbrev YX2_nurse : mY := (RX2, cX2_nurse, 5, (Option.some .int), 6, 139, false)
theorem YOK_X2_nurse : YOK yX2_nurse 0 := ⟨⟨by decide +kernel, by decide +kernel⟩, by decide +kernel⟩
theorem sX2_nurse_L34_go {G : gG} {s0 sE : St} {rE : Option V3} (this : Nat) : ∀ (n : Nat) (s18 : St) (v19 : Int32) (v20 : Int32) (v21 : Int32) (s22 : St) (v23 : Int32), sX2_nurse_L34 this n s18 v19 v20 v21 = some (s22, v23) → Go G YX2_nurse s0 sE rE 84 [(2, iV v23)] [] s22 → Go G YX2_nurse s0 sE rE 34 [(0, rV (some this)), (1, iV v19), (2, iV v20), (3, iV v21)] [] s18 := by
  intro n
  induction n with
  | zero => intro s18 v19 v20 v21 s22 v23 h hx; rw [sX2_nurse_L34] at h; cases h
  | succ n ih =>
    intro s18 v19 v20 v21 s22 v23 h hx
    revert h
    rw [sX2_nurse_L34]
    refine im (go_iload_n (pc := 34) (Y := YX2_nurse) 3 dX2_nurse_34 rfl rfl) ?_
    refine im (go_aload_n (pc := 35) (Y := YX2_nurse) 0 dX2_nurse_35 rfl rfl) ?_
    refine flp (go_gR (pc := 36) (Y := YX2_nurse) fF1011 (by decide) q1648 (Or.inl rfl) dX2_nurse_36) (fun v24 => ?_)
    refine im (go_iconst (pc := 39) (Y := YX2_nurse) (v := 3) dX2_nurse_39 rfl) ?_
    refine flp (go_lI1 (pc := 40) (Y := YX2_nurse) dX2_nurse_40) (fun v25 => ?_)
    refine flp2 (go_icmp_ge (pc := 41) (Y := YX2_nurse) 84 dX2_nurse_41 (by decide)) ?_ ?_
    · refine e2 (fun q0 q1 => ?_)
      subst q0
      subst q1
      exact go_sub [2] rfl hx
    · refine im (go_aload_n (pc := 44) (Y := YX2_nurse) 0 dX2_nurse_44 rfl rfl) ?_
      refine kdg (fun k26 => ?_)
      refine bpg (fun s27 he28 => ?_)
      refine im (go_callV (pc := 45) (Y := YX2_nurse) (Yc := YX2_asNow) (y := yX2_asNow) (n := 0) (c0 := 2) (q := (RX2, TX2, 37)) this [] [] rfl rfl k26 (mX2_asNow s18 he28) YOK_X2_asNow rfl q1981 q133 q1980 qs102 q1978 (Nat.le_of_ble_eq_true rfl) (Nat.le_of_ble_eq_true rfl) (Nat.le_of_ble_eq_true rfl) dX2_nurse_45 (st2 := []) rfl) ?_
      clear he28
      refine im (go_aload_n (pc := 48) (Y := YX2_nurse) 0 dX2_nurse_48 rfl rfl) ?_
      refine flp (go_gR (pc := 49) (Y := YX2_nurse) fF1018 (by decide) q1657 (Or.inl rfl) dX2_nurse_49) (fun v29 => ?_)
      refine im (go_iload_n (pc := 52) (Y := YX2_nurse) 3 dX2_nurse_52 rfl rfl) ?_
      refine im (go_iconst (pc := 53) (Y := YX2_nurse) (v := 2) dX2_nurse_53 rfl) ?_
      refine flp (go_tI (pc := 54) (Y := YX2_nurse) dX2_nurse_54) (fun s30 => ?_)
      refine im (go_aload_n (pc := 55) (Y := YX2_nurse) 0 dX2_nurse_55 rfl rfl) ?_
      refine kdg (fun k31 => ?_)
      refine bdg (fun s32 v33 he34 => ?_)
      refine im (go_callV (pc := 56) (Y := YX2_nurse) (Yc := YX2_stopped) (y := yX2_stopped) (n := 0) (c0 := 2) (q := (RX2, TX2, 37)) this [] [] rfl rfl k31 (mX2_stopped s30 he34) YOK_X2_stopped rfl q2077 q133 q2076 qs113 q2074 (Nat.le_of_ble_eq_true rfl) (Nat.le_of_ble_eq_true rfl) (Nat.le_of_ble_eq_true rfl) dX2_nurse_56 (st2 := [iV v33]) rfl) ?_
      clear he34
      refine bpg (fun v35 he36 => ?_)
      refine im (go_callS (pc := 59) (Y := YX2_nurse) (Yc := YX2_ones) (y := yX2_ones) (n := 1) [iV v33] [] rfl (mX2_ones s32 he36) YOK_X2_ones rfl q2080 q133 q2079 q2078 (Nat.le_of_ble_eq_true rfl) (Nat.le_of_ble_eq_true rfl) (Nat.le_of_ble_eq_true rfl) dX2_nurse_59 (st2 := [iV v35]) rfl) ?_
      clear he36
      refine im (go_istore (pc := 62) (Y := YX2_nurse) (ls2 := [(4, iV v35), (0, rV (some this)), (1, iV v19), (2, iV v20), (3, iV v21)]) dX2_nurse_62 (Nat.le_of_ble_eq_true rfl) rfl) ?_
      refine im (go_iload (pc := 64) (Y := YX2_nurse) 0 dX2_nurse_64 rfl) ?_
      refine im (go_iload_n (pc := 66) (Y := YX2_nurse) 2 dX2_nurse_66 rfl rfl) ?_
      refine b2g (fun v37 v38 he39 h40 => ?_)
      have hj78 : Go G YX2_nurse s0 sE rE 78 [(0, rV (some this)), (1, iV v37), (2, iV v38), (3, iV v21)] [] s32 := by
        clear he39
        revert h40
        refine im (go_iinc (pc := 78) (Y := YX2_nurse) 3 (v := (v21 + 1)) (ls2 := [(3, iV (v21 + 1)), (0, rV (some this)), (1, iV v37), (2, iV v38)]) dX2_nurse_78 rfl rfl (Nat.le_of_ble_eq_true rfl) rfl) ?_
        refine im (go_goto (pc := 81) (Y := YX2_nurse) 34 dX2_nurse_81 (by decide)) ?_
        exact fun hq => go_sub [1, 2, 3, 0] rfl (ih _ _ _ _ _ _ hq hx)
      clear h40
      revert he39
      refine flp2 (go_icmp_gt (pc := 67) (Y := YX2_nurse) 73 dX2_nurse_67 (by decide)) ?_ ?_
      · refine im (go_iload_n (pc := 73) (Y := YX2_nurse) 4 dX2_nurse_73 rfl rfl) ?_
        refine im (go_istore_n (pc := 74) (Y := YX2_nurse) (ls2 := [(2, iV v21), (4, iV v35), (0, rV (some this)), (1, iV v19), (3, iV v21)]) dX2_nurse_74 rfl (Nat.le_of_ble_eq_true rfl) rfl) ?_
        refine im (go_iload (pc := 75) (Y := YX2_nurse) 1 dX2_nurse_75 rfl) ?_
        refine im (go_istore_n (pc := 77) (Y := YX2_nurse) (ls2 := [(1, iV v35), (2, iV v21), (4, iV v35), (0, rV (some this)), (3, iV v21)]) dX2_nurse_77 rfl (Nat.le_of_ble_eq_true rfl) rfl) ?_
        refine e2 (fun q0 q1 => ?_)
        subst q0
        subst q1
        exact go_sub [3, 0, 1, 4] rfl hj78
      · refine im (go_goto (pc := 70) (Y := YX2_nurse) 78 dX2_nurse_70 (by decide)) ?_
        refine e2 (fun q0 q1 => ?_)
        subst q0
        subst q1
        exact go_sub [1, 2, 3, 4] rfl hj78
theorem mX2_nurse {G : gG} (s0 : St) {this : Nat} {sE : St} {vE : Int32} (h : sX2_nurse s0 this = some (sE, vE)) : Mt G YX2_nurse yX2_nurse [rV (some this)] s0 (some (iV vE)) sE := by
  refine go_start (ls0 := [(0, rV (some this))]) (by decide +kernel) rfl (fun h => by cases h) (Nat.le_of_ble_eq_true rfl) rfl ?_
  revert h
  unfold sX2_nurse
  refine im (go_aload_n (pc := 0) (Y := YX2_nurse) 0 dX2_nurse_0 rfl rfl) ?_
  refine kdg (fun k1 => ?_)
  refine bpg (fun s2 he3 => ?_)
  refine im (go_callV (pc := 1) (Y := YX2_nurse) (Yc := YX2_good) (y := yX2_good) (n := 0) (c0 := 2) (q := (RX2, TX2, 37)) this [] [] rfl rfl k1 (mX2_good s0 he3) YOK_X2_good rfl q1760 q133 q1759 qs66 q1757 (Nat.le_of_ble_eq_true rfl) (Nat.le_of_ble_eq_true rfl) (Nat.le_of_ble_eq_true rfl) dX2_nurse_1 (st2 := []) rfl) ?_
  clear he3
  refine im (go_aload_n (pc := 4) (Y := YX2_nurse) 0 dX2_nurse_4 rfl rfl) ?_
  refine flp (go_gI (pc := 5) (Y := YX2_nurse) fF31 (by decide) q1647 (Or.inl rfl) dX2_nurse_5) (fun v4 => ?_)
  refine flp2 (go_if_ne (pc := 8) (Y := YX2_nurse) 17 dX2_nurse_8 (by decide)) ?_ ?_
  · refine im (go_aload_n (pc := 11) (Y := YX2_nurse) 0 dX2_nurse_11 rfl rfl) ?_
    refine im (go_iconst (pc := 12) (Y := YX2_nurse) (v := 1) dX2_nurse_12 rfl) ?_
    refine kdg (fun k5 => ?_)
    refine bdg (fun s6 v7 he8 => ?_)
    refine im (go_callV (pc := 13) (Y := YX2_nurse) (Yc := YX2_no) (y := yX2_no) (n := 1) (c0 := 2) (q := (RX2, TX2, 37)) this [iV 1] [] rfl rfl k5 (mX2_no s2 he8) YOK_X2_no rfl q1767 q133 q1766 qs67 q1764 (Nat.le_of_ble_eq_true rfl) (Nat.le_of_ble_eq_true rfl) (Nat.le_of_ble_eq_true rfl) dX2_nurse_13 (st2 := [iV v7]) rfl) ?_
    clear he8
    refine e2 (fun q0 q1 => ?_)
    subst q0
    subst q1
    exact go_iret (pc := 16) (Y := YX2_nurse) rfl dX2_nurse_16
  · refine im (go_aload_n (pc := 17) (Y := YX2_nurse) 0 dX2_nurse_17 rfl rfl) ?_
    refine kdg (fun k9 => ?_)
    refine bpg (fun s10 he11 => ?_)
    refine im (go_callV (pc := 18) (Y := YX2_nurse) (Yc := YX2_asNow) (y := yX2_asNow) (n := 0) (c0 := 2) (q := (RX2, TX2, 37)) this [] [] rfl rfl k9 (mX2_asNow s2 he11) YOK_X2_asNow rfl q1981 q133 q1980 qs102 q1978 (Nat.le_of_ble_eq_true rfl) (Nat.le_of_ble_eq_true rfl) (Nat.le_of_ble_eq_true rfl) dX2_nurse_18 (st2 := []) rfl) ?_
    clear he11
    refine im (go_aload_n (pc := 21) (Y := YX2_nurse) 0 dX2_nurse_21 rfl rfl) ?_
    refine kdg (fun k12 => ?_)
    refine bdg (fun s13 v14 he15 => ?_)
    refine im (go_callV (pc := 22) (Y := YX2_nurse) (Yc := YX2_stopped) (y := yX2_stopped) (n := 0) (c0 := 2) (q := (RX2, TX2, 37)) this [] [] rfl rfl k12 (mX2_stopped s10 he15) YOK_X2_stopped rfl q2077 q133 q2076 qs113 q2074 (Nat.le_of_ble_eq_true rfl) (Nat.le_of_ble_eq_true rfl) (Nat.le_of_ble_eq_true rfl) dX2_nurse_22 (st2 := [iV v14]) rfl) ?_
    clear he15
    refine bpg (fun v16 he17 => ?_)
    refine im (go_callS (pc := 25) (Y := YX2_nurse) (Yc := YX2_ones) (y := yX2_ones) (n := 1) [iV v14] [] rfl (mX2_ones s13 he17) YOK_X2_ones rfl q2080 q133 q2079 q2078 (Nat.le_of_ble_eq_true rfl) (Nat.le_of_ble_eq_true rfl) (Nat.le_of_ble_eq_true rfl) dX2_nurse_25 (st2 := [iV v16]) rfl) ?_
    clear he17
    refine im (go_istore_n (pc := 28) (Y := YX2_nurse) (ls2 := [(1, iV v16), (0, rV (some this))]) dX2_nurse_28 rfl (Nat.le_of_ble_eq_true rfl) rfl) ?_
    refine im (go_bipush (pc := 29) (Y := YX2_nurse) (v := -2) dX2_nurse_29 rfl) ?_
    refine im (go_istore_n (pc := 31) (Y := YX2_nurse) (ls2 := [(2, iV (-2)), (1, iV v16), (0, rV (some this))]) dX2_nurse_31 rfl (Nat.le_of_ble_eq_true rfl) rfl) ?_
    refine im (go_iconst (pc := 32) (Y := YX2_nurse) (v := 0) dX2_nurse_32 rfl) ?_
    refine im (go_istore_n (pc := 33) (Y := YX2_nurse) (ls2 := [(3, iV 0), (2, iV (-2)), (1, iV v16), (0, rV (some this))]) dX2_nurse_33 rfl (Nat.le_of_ble_eq_true rfl) rfl) ?_
    refine b2g (fun s41 v42 he43 h44 => ?_)
    refine go_sub [3, 2, 1, 0] rfl (sX2_nurse_L34_go this FU _ _ _ _ _ _ he43 ?_)
    clear he43
    revert h44
    refine im (go_iload_n (pc := 84) (Y := YX2_nurse) 0 dX2_nurse_84 rfl rfl) ?_
    refine e2 (fun q0 q1 => ?_)
    subst q0
    subst q1
    exact go_iret (pc := 85) (Y := YX2_nurse) rfl dX2_nurse_85
abbrev YX2_endsIf : mY := (RX2, cX2_endsIf, 5, (Option.some .int), 4, 96, false)
theorem YOK_X2_endsIf : YOK yX2_endsIf 3 := ⟨⟨by decide +kernel, by decide +kernel⟩, by decide +kernel⟩
theorem mX2_endsIf {G : gG} (s0 : St) {this : Nat} {p0 : Int32} {p1 : Int32} {p2 : Int32} {sE : St} {vE : Int32} (h : sX2_endsIf s0 this p0 p1 p2 = some (sE, vE)) : Mt G YX2_endsIf yX2_endsIf [rV (some this), iV p0, iV p1, iV p2] s0 (some (iV vE)) sE := by
  refine go_start (ls0 := [(0, rV (some this)), (1, iV p0), (2, iV p1), (3, iV p2)]) (by decide +kernel) rfl (fun h => by cases h) (Nat.le_of_ble_eq_true rfl) rfl ?_
  revert h
  unfold sX2_endsIf
  refine im (go_aload_n (pc := 0) (Y := YX2_endsIf) 0 dX2_endsIf_0 rfl rfl) ?_
  refine kdg (fun k1 => ?_)
  refine bpg (fun s2 he3 => ?_)
  refine im (go_callV (pc := 1) (Y := YX2_endsIf) (Yc := YX2_good) (y := yX2_good) (n := 0) (c0 := 2) (q := (RX2, TX2, 37)) this [] [] rfl rfl k1 (mX2_good s0 he3) YOK_X2_good rfl q1760 q133 q1759 qs66 q1757 (Nat.le_of_ble_eq_true rfl) (Nat.le_of_ble_eq_true rfl) (Nat.le_of_ble_eq_true rfl) dX2_endsIf_1 (st2 := []) rfl) ?_
  clear he3
  refine im (go_aload_n (pc := 4) (Y := YX2_endsIf) 0 dX2_endsIf_4 rfl rfl) ?_
  refine im (go_aload_n (pc := 5) (Y := YX2_endsIf) 0 dX2_endsIf_5 rfl rfl) ?_
  refine im (go_iload_n (pc := 6) (Y := YX2_endsIf) 1 dX2_endsIf_6 rfl rfl) ?_
  refine kdg (fun k4 => ?_)
  refine bpg (fun v5 he6 => ?_)
  refine im (go_callV (pc := 7) (Y := YX2_endsIf) (Yc := YX2_isQuarrel) (y := yX2_isQuarrel) (n := 1) (c0 := 2) (q := (RX2, TX2, 37)) this [iV p0] [rV (some this)] rfl rfl k4 (mX2_isQuarrel s2 he6) YOK_X2_isQuarrel rfl q1965 q133 q1964 qs99 q1962 (Nat.le_of_ble_eq_true rfl) (Nat.le_of_ble_eq_true rfl) (Nat.le_of_ble_eq_true rfl) dX2_endsIf_7 (st2 := [iV v5, rV (some this)]) rfl) ?_
  clear he6
  refine bpg (fun v7 he28 h29 => ?_)
  have hj26 : Go G YX2_endsIf s0 sE (some (iV vE)) 26 [(0, rV (some this)), (1, iV p0), (2, iV p1), (3, iV p2)] [iV v7, rV (some this)] s2 := by
    clear he28
    revert h29
    refine im (go_aload_n (pc := 26) (Y := YX2_endsIf) 0 dX2_endsIf_26 rfl rfl) ?_
    refine im (go_iload_n (pc := 27) (Y := YX2_endsIf) 3 dX2_endsIf_27 rfl rfl) ?_
    refine kdg (fun k8 => ?_)
    refine bpg (fun v9 he10 => ?_)
    refine im (go_callV (pc := 28) (Y := YX2_endsIf) (Yc := YX2_isMinute) (y := yX2_isMinute) (n := 1) (c0 := 2) (q := (RX2, TX2, 37)) this [iV p2] [iV v7, rV (some this)] rfl rfl k8 (mX2_isMinute s2 he10) YOK_X2_isMinute rfl q1973 q133 q1972 qs100 q1970 (Nat.le_of_ble_eq_true rfl) (Nat.le_of_ble_eq_true rfl) (Nat.le_of_ble_eq_true rfl) dX2_endsIf_28 (st2 := [iV v9, iV v7, rV (some this)]) rfl) ?_
    clear he10
    refine kdg (fun k11 => ?_)
    refine bpg (fun v12 he13 => ?_)
    refine im (go_callV (pc := 31) (Y := YX2_endsIf) (Yc := YX2_why) (y := yX2_why) (n := 2) (c0 := 2) (q := (RX2, TX2, 37)) this [iV v7, iV v9] [] rfl rfl k11 (mX2_why s2 he13) YOK_X2_why rfl q1977 q133 q1976 qs101 q1974 (Nat.le_of_ble_eq_true rfl) (Nat.le_of_ble_eq_true rfl) (Nat.le_of_ble_eq_true rfl) dX2_endsIf_31 (st2 := [iV v12]) rfl) ?_
    clear he13
    refine im (go_istore (pc := 34) (Y := YX2_endsIf) (ls2 := [(4, iV v12), (0, rV (some this)), (1, iV p0), (2, iV p1), (3, iV p2)]) dX2_endsIf_34 (Nat.le_of_ble_eq_true rfl) rfl) ?_
    refine im (go_iload (pc := 36) (Y := YX2_endsIf) 0 dX2_endsIf_36 rfl) ?_
    refine flp2 (go_if_eq (pc := 38) (Y := YX2_endsIf) 48 dX2_endsIf_38 (by decide)) ?_ ?_
    · refine im (go_aload_n (pc := 48) (Y := YX2_endsIf) 1 dX2_endsIf_48 rfl rfl) ?_
      refine kdg (fun k14 => ?_)
      refine bpg (fun s15 he16 => ?_)
      refine im (go_callV (pc := 49) (Y := YX2_endsIf) (Yc := YX2_asNow) (y := yX2_asNow) (n := 0) (c0 := 2) (q := (RX2, TX2, 37)) this [] [] rfl rfl k14 (mX2_asNow s2 he16) YOK_X2_asNow rfl q1981 q133 q1980 qs102 q1978 (Nat.le_of_ble_eq_true rfl) (Nat.le_of_ble_eq_true rfl) (Nat.le_of_ble_eq_true rfl) dX2_endsIf_49 (st2 := []) rfl) ?_
      clear he16
      refine im (go_aload_n (pc := 52) (Y := YX2_endsIf) 1 dX2_endsIf_52 rfl rfl) ?_
      refine im (go_iload_n (pc := 53) (Y := YX2_endsIf) 2 dX2_endsIf_53 rfl rfl) ?_
      refine im (go_iload_n (pc := 54) (Y := YX2_endsIf) 3 dX2_endsIf_54 rfl rfl) ?_
      refine im (go_iload_n (pc := 55) (Y := YX2_endsIf) 4 dX2_endsIf_55 rfl rfl) ?_
      refine im (go_iconst (pc := 56) (Y := YX2_endsIf) (v := 0) dX2_endsIf_56 rfl) ?_
      refine kdg (fun k17 => ?_)
      refine bpg (fun s18 he19 => ?_)
      refine im (go_callV (pc := 57) (Y := YX2_endsIf) (Yc := YX2_run) (y := yX2_run) (n := 4) (c0 := 2) (q := (RX2, TX2, 37)) this [iV p0, iV p1, iV p2, iV 0] [] rfl rfl k17 (mX2_run s15 he19) YOK_X2_run rfl q2044 q133 q2043 qs111 q2041 (Nat.le_of_ble_eq_true rfl) (Nat.le_of_ble_eq_true rfl) (Nat.le_of_ble_eq_true rfl) dX2_endsIf_57 (st2 := []) rfl) ?_
      clear he19
      refine im (go_aload_n (pc := 60) (Y := YX2_endsIf) 1 dX2_endsIf_60 rfl rfl) ?_
      refine flp (go_gI (pc := 61) (Y := YX2_endsIf) fF34 (by decide) q1658 (Or.inl rfl) dX2_endsIf_61) (fun v20 => ?_)
      refine e2 (fun q0 q1 => ?_)
      subst q0
      subst q1
      exact go_iret (pc := 64) (Y := YX2_endsIf) rfl dX2_endsIf_64
    · refine im (go_aload_n (pc := 41) (Y := YX2_endsIf) 1 dX2_endsIf_41 rfl rfl) ?_
      refine im (go_iload (pc := 42) (Y := YX2_endsIf) 0 dX2_endsIf_42 rfl) ?_
      refine kdg (fun k21 => ?_)
      refine bdg (fun s22 v23 he24 => ?_)
      refine im (go_callV (pc := 44) (Y := YX2_endsIf) (Yc := YX2_no) (y := yX2_no) (n := 1) (c0 := 2) (q := (RX2, TX2, 37)) this [iV v12] [] rfl rfl k21 (mX2_no s2 he24) YOK_X2_no rfl q1767 q133 q1766 qs67 q1764 (Nat.le_of_ble_eq_true rfl) (Nat.le_of_ble_eq_true rfl) (Nat.le_of_ble_eq_true rfl) dX2_endsIf_44 (st2 := [iV v23]) rfl) ?_
      clear he24
      refine e2 (fun q0 q1 => ?_)
      subst q0
      subst q1
      exact go_iret (pc := 47) (Y := YX2_endsIf) rfl dX2_endsIf_47
  clear h29
  revert he28
  refine flp2 (go_if_eq (pc := 10) (Y := YX2_endsIf) 25 dX2_endsIf_10 (by decide)) ?_ ?_
  · refine im (go_iconst (pc := 25) (Y := YX2_endsIf) (v := 0) dX2_endsIf_25 rfl) ?_
    refine e1 (fun q0 => ?_)
    subst q0
    exact go_sub [0, 1, 2, 3] rfl hj26
  · refine im (go_aload_n (pc := 13) (Y := YX2_endsIf) 0 dX2_endsIf_13 rfl rfl) ?_
    refine im (go_iload_n (pc := 14) (Y := YX2_endsIf) 2 dX2_endsIf_14 rfl rfl) ?_
    refine kdg (fun k25 => ?_)
    refine bpg (fun v26 he27 => ?_)
    refine im (go_callV (pc := 15) (Y := YX2_endsIf) (Yc := YX2_isPlace) (y := yX2_isPlace) (n := 1) (c0 := 2) (q := (RX2, TX2, 37)) this [iV p1] [rV (some this)] rfl rfl k25 (mX2_isPlace s2 he27) YOK_X2_isPlace rfl q1993 q133 q1992 qs104 q1990 (Nat.le_of_ble_eq_true rfl) (Nat.le_of_ble_eq_true rfl) (Nat.le_of_ble_eq_true rfl) dX2_endsIf_15 (st2 := [iV v26, rV (some this)]) rfl) ?_
    clear he27
    refine flp2 (go_if_eq (pc := 18) (Y := YX2_endsIf) 25 dX2_endsIf_18 (by decide)) ?_ ?_
    · refine im (go_iconst (pc := 25) (Y := YX2_endsIf) (v := 0) dX2_endsIf_25 rfl) ?_
      refine e1 (fun q0 => ?_)
      subst q0
      exact go_sub [0, 1, 2, 3] rfl hj26
    · refine im (go_iconst (pc := 21) (Y := YX2_endsIf) (v := 1) dX2_endsIf_21 rfl) ?_
      refine im (go_goto (pc := 22) (Y := YX2_endsIf) 26 dX2_endsIf_22 (by decide)) ?_
      refine e1 (fun q0 => ?_)
      subst q0
      exact go_sub [0, 1, 2, 3] rfl hj26
abbrev YX2_cellars : mY := (RX2, cX2_cellars, 4, (Option.some .int), 4, 96, false)
theorem YOK_X2_cellars : YOK yX2_cellars 1 := ⟨⟨by decide +kernel, by decide +kernel⟩, by decide +kernel⟩
theorem sX2_cellars_L26_go {G : gG} {s0 sE : St} {rE : Option V3} (this : Nat) (i1 : Int32) : ∀ (n : Nat) (s14 : St) (v15 : Int32) (v16 : Int32) (s17 : St) (v18 : Int32), sX2_cellars_L26 this i1 n s14 v15 v16 = some (s17, v18) → Go G YX2_cellars s0 sE rE 79 [(2, iV v18)] [] s17 → Go G YX2_cellars s0 sE rE 26 [(0, rV (some this)), (1, iV i1), (2, iV v15), (3, iV v16)] [] s14 := by
  intro n
  induction n with
  | zero => intro s14 v15 v16 s17 v18 h hx; rw [sX2_cellars_L26] at h; cases h
  | succ n ih =>
    intro s14 v15 v16 s17 v18 h hx
    revert h
    rw [sX2_cellars_L26]
    refine im (go_iload_n (pc := 26) (Y := YX2_cellars) 3 dX2_cellars_26 rfl rfl) ?_
    refine im (go_aload_n (pc := 27) (Y := YX2_cellars) 0 dX2_cellars_27 rfl rfl) ?_
    refine flp (go_gR (pc := 28) (Y := YX2_cellars) fF1011 (by decide) q1648 (Or.inl rfl) dX2_cellars_28) (fun v19 => ?_)
    refine im (go_iconst (pc := 31) (Y := YX2_cellars) (v := 1) dX2_cellars_31 rfl) ?_
    refine flp (go_lI1 (pc := 32) (Y := YX2_cellars) dX2_cellars_32) (fun v20 => ?_)
    refine flp2 (go_icmp_ge (pc := 33) (Y := YX2_cellars) 79 dX2_cellars_33 (by decide)) ?_ ?_
    · refine e2 (fun q0 q1 => ?_)
      subst q0
      subst q1
      exact go_sub [2] rfl hx
    · refine im (go_aload_n (pc := 36) (Y := YX2_cellars) 0 dX2_cellars_36 rfl rfl) ?_
      refine im (go_iload_n (pc := 37) (Y := YX2_cellars) 1 dX2_cellars_37 rfl rfl) ?_
      refine im (go_iload_n (pc := 38) (Y := YX2_cellars) 3 dX2_cellars_38 rfl rfl) ?_
      refine im (go_aload_n (pc := 39) (Y := YX2_cellars) 0 dX2_cellars_39 rfl rfl) ?_
      refine flp (go_gR (pc := 40) (Y := YX2_cellars) fF1011 (by decide) q1648 (Or.inl rfl) dX2_cellars_40) (fun v21 => ?_)
      refine im (go_bipush (pc := 43) (Y := YX2_cellars) (v := 80) dX2_cellars_43 rfl) ?_
      refine im (go_iconst (pc := 45) (Y := YX2_cellars) (v := 5) dX2_cellars_45 rfl) ?_
      refine im (go_iload_n (pc := 46) (Y := YX2_cellars) 1 dX2_cellars_46 rfl rfl) ?_
      refine im (go_imul (pc := 47) (Y := YX2_cellars) dX2_cellars_47) ?_
      refine im (go_iadd (pc := 48) (Y := YX2_cellars) dX2_cellars_48) ?_
      refine im (go_iconst (pc := 49) (Y := YX2_cellars) (v := 3) dX2_cellars_49 rfl) ?_
      refine im (go_iadd (pc := 50) (Y := YX2_cellars) dX2_cellars_50) ?_
      refine flp (go_lI1 (pc := 51) (Y := YX2_cellars) dX2_cellars_51) (fun v22 => ?_)
      refine im (go_iconst (pc := 52) (Y := YX2_cellars) (v := 0) dX2_cellars_52 rfl) ?_
      refine kdg (fun k23 => ?_)
      refine bpg (fun s24 he25 => ?_)
      refine im (go_callV (pc := 53) (Y := YX2_cellars) (Yc := YX2_run) (y := yX2_run) (n := 4) (c0 := 2) (q := (RX2, TX2, 37)) this [iV i1, iV v16, iV v22, iV 0] [] rfl rfl k23 (mX2_run s14 he25) YOK_X2_run rfl q2044 q133 q2043 qs111 q2041 (Nat.le_of_ble_eq_true rfl) (Nat.le_of_ble_eq_true rfl) (Nat.le_of_ble_eq_true rfl) dX2_cellars_53 (st2 := []) rfl) ?_
      clear he25
      refine im (go_iload_n (pc := 56) (Y := YX2_cellars) 2 dX2_cellars_56 rfl rfl) ?_
      refine im (go_aload_n (pc := 57) (Y := YX2_cellars) 0 dX2_cellars_57 rfl rfl) ?_
      refine flp (go_gI (pc := 58) (Y := YX2_cellars) fF34 (by decide) q1658 (Or.inl rfl) dX2_cellars_58) (fun v26 => ?_)
      refine bpg (fun v27 he28 h29 => ?_)
      have hj71 : Go G YX2_cellars s0 sE rE 71 [(0, rV (some this)), (1, iV i1), (3, iV v16)] [iV v27, iV v15] s24 := by
        clear he28
        revert h29
        refine im (go_ior (pc := 71) (Y := YX2_cellars) dX2_cellars_71) ?_
        refine im (go_istore_n (pc := 72) (Y := YX2_cellars) (ls2 := [(2, iV (v15 ||| v27)), (0, rV (some this)), (1, iV i1), (3, iV v16)]) dX2_cellars_72 rfl (Nat.le_of_ble_eq_true rfl) rfl) ?_
        refine im (go_iinc (pc := 73) (Y := YX2_cellars) 3 (v := (v16 + 1)) (ls2 := [(3, iV (v16 + 1)), (2, iV (v15 ||| v27)), (0, rV (some this)), (1, iV i1)]) dX2_cellars_73 rfl rfl (Nat.le_of_ble_eq_true rfl) rfl) ?_
        refine im (go_goto (pc := 76) (Y := YX2_cellars) 26 dX2_cellars_76 (by decide)) ?_
        exact fun hq => go_sub [2, 3, 1, 0] rfl (ih _ _ _ _ _ hq hx)
      clear h29
      revert he28
      refine flp2 (go_if_le (pc := 61) (Y := YX2_cellars) 70 dX2_cellars_61 (by decide)) ?_ ?_
      · refine im (go_iconst (pc := 70) (Y := YX2_cellars) (v := 0) dX2_cellars_70 rfl) ?_
        refine e1 (fun q0 => ?_)
        subst q0
        exact go_sub [0, 1, 3] rfl hj71
      · refine im (go_iconst (pc := 64) (Y := YX2_cellars) (v := 1) dX2_cellars_64 rfl) ?_
        refine im (go_iload_n (pc := 65) (Y := YX2_cellars) 3 dX2_cellars_65 rfl rfl) ?_
        refine im (go_ishl (pc := 66) (Y := YX2_cellars) dX2_cellars_66) ?_
        refine im (go_goto (pc := 67) (Y := YX2_cellars) 71 dX2_cellars_67 (by decide)) ?_
        refine e1 (fun q0 => ?_)
        subst q0
        exact go_sub [0, 1, 3] rfl hj71
theorem mX2_cellars {G : gG} (s0 : St) {this : Nat} {p0 : Int32} {sE : St} {vE : Int32} (h : sX2_cellars s0 this p0 = some (sE, vE)) : Mt G YX2_cellars yX2_cellars [rV (some this), iV p0] s0 (some (iV vE)) sE := by
  refine go_start (ls0 := [(0, rV (some this)), (1, iV p0)]) (by decide +kernel) rfl (fun h => by cases h) (Nat.le_of_ble_eq_true rfl) rfl ?_
  revert h
  unfold sX2_cellars
  refine im (go_aload_n (pc := 0) (Y := YX2_cellars) 0 dX2_cellars_0 rfl rfl) ?_
  refine kdg (fun k1 => ?_)
  refine bpg (fun s2 he3 => ?_)
  refine im (go_callV (pc := 1) (Y := YX2_cellars) (Yc := YX2_good) (y := yX2_good) (n := 0) (c0 := 2) (q := (RX2, TX2, 37)) this [] [] rfl rfl k1 (mX2_good s0 he3) YOK_X2_good rfl q1760 q133 q1759 qs66 q1757 (Nat.le_of_ble_eq_true rfl) (Nat.le_of_ble_eq_true rfl) (Nat.le_of_ble_eq_true rfl) dX2_cellars_1 (st2 := []) rfl) ?_
  clear he3
  refine im (go_aload_n (pc := 4) (Y := YX2_cellars) 0 dX2_cellars_4 rfl rfl) ?_
  refine im (go_iload_n (pc := 5) (Y := YX2_cellars) 1 dX2_cellars_5 rfl rfl) ?_
  refine kdg (fun k4 => ?_)
  refine bpg (fun v5 he6 => ?_)
  refine im (go_callV (pc := 6) (Y := YX2_cellars) (Yc := YX2_isQuarrel) (y := yX2_isQuarrel) (n := 1) (c0 := 2) (q := (RX2, TX2, 37)) this [iV p0] [] rfl rfl k4 (mX2_isQuarrel s2 he6) YOK_X2_isQuarrel rfl q1965 q133 q1964 qs99 q1962 (Nat.le_of_ble_eq_true rfl) (Nat.le_of_ble_eq_true rfl) (Nat.le_of_ble_eq_true rfl) dX2_cellars_6 (st2 := [iV v5]) rfl) ?_
  clear he6
  refine flp2 (go_if_ne (pc := 9) (Y := YX2_cellars) 18 dX2_cellars_9 (by decide)) ?_ ?_
  · refine im (go_aload_n (pc := 12) (Y := YX2_cellars) 0 dX2_cellars_12 rfl rfl) ?_
    refine im (go_iconst (pc := 13) (Y := YX2_cellars) (v := 1) dX2_cellars_13 rfl) ?_
    refine kdg (fun k7 => ?_)
    refine bdg (fun s8 v9 he10 => ?_)
    refine im (go_callV (pc := 14) (Y := YX2_cellars) (Yc := YX2_no) (y := yX2_no) (n := 1) (c0 := 2) (q := (RX2, TX2, 37)) this [iV 1] [] rfl rfl k7 (mX2_no s2 he10) YOK_X2_no rfl q1767 q133 q1766 qs67 q1764 (Nat.le_of_ble_eq_true rfl) (Nat.le_of_ble_eq_true rfl) (Nat.le_of_ble_eq_true rfl) dX2_cellars_14 (st2 := [iV v9]) rfl) ?_
    clear he10
    refine e2 (fun q0 q1 => ?_)
    subst q0
    subst q1
    exact go_iret (pc := 17) (Y := YX2_cellars) rfl dX2_cellars_17
  · refine im (go_aload_n (pc := 18) (Y := YX2_cellars) 0 dX2_cellars_18 rfl rfl) ?_
    refine kdg (fun k11 => ?_)
    refine bpg (fun s12 he13 => ?_)
    refine im (go_callV (pc := 19) (Y := YX2_cellars) (Yc := YX2_asNow) (y := yX2_asNow) (n := 0) (c0 := 2) (q := (RX2, TX2, 37)) this [] [] rfl rfl k11 (mX2_asNow s2 he13) YOK_X2_asNow rfl q1981 q133 q1980 qs102 q1978 (Nat.le_of_ble_eq_true rfl) (Nat.le_of_ble_eq_true rfl) (Nat.le_of_ble_eq_true rfl) dX2_cellars_19 (st2 := []) rfl) ?_
    clear he13
    refine im (go_iconst (pc := 22) (Y := YX2_cellars) (v := 0) dX2_cellars_22 rfl) ?_
    refine im (go_istore_n (pc := 23) (Y := YX2_cellars) (ls2 := [(2, iV 0), (0, rV (some this)), (1, iV p0)]) dX2_cellars_23 rfl (Nat.le_of_ble_eq_true rfl) rfl) ?_
    refine im (go_iconst (pc := 24) (Y := YX2_cellars) (v := 0) dX2_cellars_24 rfl) ?_
    refine im (go_istore_n (pc := 25) (Y := YX2_cellars) (ls2 := [(3, iV 0), (2, iV 0), (0, rV (some this)), (1, iV p0)]) dX2_cellars_25 rfl (Nat.le_of_ble_eq_true rfl) rfl) ?_
    refine b2g (fun s30 v31 he32 h33 => ?_)
    refine go_sub [2, 3, 1, 0] rfl (sX2_cellars_L26_go this p0 FU _ _ _ _ _ he32 ?_)
    clear he32
    revert h33
    refine im (go_iload_n (pc := 79) (Y := YX2_cellars) 0 dX2_cellars_79 rfl rfl) ?_
    refine e2 (fun q0 q1 => ?_)
    subst q0
    subst q1
    exact go_iret (pc := 80) (Y := YX2_cellars) rfl dX2_cellars_80
abbrev YX2_hour : mY := (RX2, cX2_hour, 3, (Option.some .int), 4, 96, false)
theorem YOK_X2_hour : YOK yX2_hour 1 := ⟨⟨by decide +kernel, by decide +kernel⟩, by decide +kernel⟩
theorem sX2_hour_L24_go {G : gG} {s0 : St} {sE : St} {vE : Int32} (this : Nat) (i1 : Int32) : ∀ (n : Nat) (s14 : St) (v15 : Int32) (o : (St × Int32) ⊕ (St)), sX2_hour_L24 this i1 n s14 v15 = some o → (∀ r, o = .inl r → r = (sE, vE)) → (∀ (s16 : St), o = .inr s16 → Go G YX2_hour s0 sE (some (iV vE)) 65 [] [] s16) → Go G YX2_hour s0 sE (some (iV vE)) 24 [(0, rV (some this)), (1, iV i1), (2, iV v15)] [] s14 := by
  intro n
  induction n with
  | zero => intro s14 v15 o h hr hx; rw [sX2_hour_L24] at h; cases h
  | succ n ih =>
    intro s14 v15 o h hr hx
    revert h
    rw [sX2_hour_L24]
    refine im (go_iload_n (pc := 24) (Y := YX2_hour) 2 dX2_hour_24 rfl rfl) ?_
    refine im (go_bipush (pc := 25) (Y := YX2_hour) (v := 59) dX2_hour_25 rfl) ?_
    refine flp2 (go_icmp_gt (pc := 27) (Y := YX2_hour) 65 dX2_hour_27 (by decide)) ?_ ?_
    · refine eor (fun hq => ?_)
      exact go_sub [] rfl (hx _ hq)
    · refine im (go_aload_n (pc := 30) (Y := YX2_hour) 0 dX2_hour_30 rfl rfl) ?_
      refine im (go_iload_n (pc := 31) (Y := YX2_hour) 1 dX2_hour_31 rfl rfl) ?_
      refine im (go_aload_n (pc := 32) (Y := YX2_hour) 0 dX2_hour_32 rfl rfl) ?_
      refine flp (go_gR (pc := 33) (Y := YX2_hour) fF1011 (by decide) q1648 (Or.inl rfl) dX2_hour_33) (fun v17 => ?_)
      refine im (go_bipush (pc := 36) (Y := YX2_hour) (v := 80) dX2_hour_36 rfl) ?_
      refine im (go_iconst (pc := 38) (Y := YX2_hour) (v := 5) dX2_hour_38 rfl) ?_
      refine im (go_iload_n (pc := 39) (Y := YX2_hour) 1 dX2_hour_39 rfl rfl) ?_
      refine im (go_imul (pc := 40) (Y := YX2_hour) dX2_hour_40) ?_
      refine im (go_iadd (pc := 41) (Y := YX2_hour) dX2_hour_41) ?_
      refine im (go_iconst (pc := 42) (Y := YX2_hour) (v := 2) dX2_hour_42 rfl) ?_
      refine im (go_iadd (pc := 43) (Y := YX2_hour) dX2_hour_43) ?_
      refine flp (go_lI1 (pc := 44) (Y := YX2_hour) dX2_hour_44) (fun v18 => ?_)
      refine im (go_iload_n (pc := 45) (Y := YX2_hour) 2 dX2_hour_45 rfl rfl) ?_
      refine im (go_iconst (pc := 46) (Y := YX2_hour) (v := 0) dX2_hour_46 rfl) ?_
      refine kdg (fun k19 => ?_)
      refine bpg (fun s20 he21 => ?_)
      refine im (go_callV (pc := 47) (Y := YX2_hour) (Yc := YX2_run) (y := yX2_run) (n := 4) (c0 := 2) (q := (RX2, TX2, 37)) this [iV i1, iV v18, iV v15, iV 0] [] rfl rfl k19 (mX2_run s14 he21) YOK_X2_run rfl q2044 q133 q2043 qs111 q2041 (Nat.le_of_ble_eq_true rfl) (Nat.le_of_ble_eq_true rfl) (Nat.le_of_ble_eq_true rfl) dX2_hour_47 (st2 := []) rfl) ?_
      clear he21
      refine im (go_aload_n (pc := 50) (Y := YX2_hour) 0 dX2_hour_50 rfl rfl) ?_
      refine flp (go_gI (pc := 51) (Y := YX2_hour) fF34 (by decide) q1658 (Or.inl rfl) dX2_hour_51) (fun v22 => ?_)
      refine flp2 (go_if_le (pc := 54) (Y := YX2_hour) 59 dX2_hour_54 (by decide)) ?_ ?_
      · refine im (go_iinc (pc := 59) (Y := YX2_hour) 2 (v := (v15 + 1)) (ls2 := [(2, iV (v15 + 1)), (0, rV (some this)), (1, iV i1)]) dX2_hour_59 rfl rfl (Nat.le_of_ble_eq_true rfl) rfl) ?_
        refine im (go_goto (pc := 62) (Y := YX2_hour) 24 dX2_hour_62 (by decide)) ?_
        exact fun hq => go_sub [1, 2, 0] rfl (ih _ _ _ hq hr hx)
      · refine im (go_iload_n (pc := 57) (Y := YX2_hour) 2 dX2_hour_57 rfl rfl) ?_
        refine eor (fun hq => ?_)
        have hq2 := hr _ hq
        obtain ⟨q0, q1⟩ := Prod.mk.inj hq2
        subst q0
        subst q1
        exact go_iret (pc := 58) (Y := YX2_hour) rfl dX2_hour_58
theorem mX2_hour {G : gG} (s0 : St) {this : Nat} {p0 : Int32} {sE : St} {vE : Int32} (h : sX2_hour s0 this p0 = some (sE, vE)) : Mt G YX2_hour yX2_hour [rV (some this), iV p0] s0 (some (iV vE)) sE := by
  refine go_start (ls0 := [(0, rV (some this)), (1, iV p0)]) (by decide +kernel) rfl (fun h => by cases h) (Nat.le_of_ble_eq_true rfl) rfl ?_
  revert h
  unfold sX2_hour
  refine im (go_aload_n (pc := 0) (Y := YX2_hour) 0 dX2_hour_0 rfl rfl) ?_
  refine kdg (fun k1 => ?_)
  refine bpg (fun s2 he3 => ?_)
  refine im (go_callV (pc := 1) (Y := YX2_hour) (Yc := YX2_good) (y := yX2_good) (n := 0) (c0 := 2) (q := (RX2, TX2, 37)) this [] [] rfl rfl k1 (mX2_good s0 he3) YOK_X2_good rfl q1760 q133 q1759 qs66 q1757 (Nat.le_of_ble_eq_true rfl) (Nat.le_of_ble_eq_true rfl) (Nat.le_of_ble_eq_true rfl) dX2_hour_1 (st2 := []) rfl) ?_
  clear he3
  refine im (go_aload_n (pc := 4) (Y := YX2_hour) 0 dX2_hour_4 rfl rfl) ?_
  refine im (go_iload_n (pc := 5) (Y := YX2_hour) 1 dX2_hour_5 rfl rfl) ?_
  refine kdg (fun k4 => ?_)
  refine bpg (fun v5 he6 => ?_)
  refine im (go_callV (pc := 6) (Y := YX2_hour) (Yc := YX2_isQuarrel) (y := yX2_isQuarrel) (n := 1) (c0 := 2) (q := (RX2, TX2, 37)) this [iV p0] [] rfl rfl k4 (mX2_isQuarrel s2 he6) YOK_X2_isQuarrel rfl q1965 q133 q1964 qs99 q1962 (Nat.le_of_ble_eq_true rfl) (Nat.le_of_ble_eq_true rfl) (Nat.le_of_ble_eq_true rfl) dX2_hour_6 (st2 := [iV v5]) rfl) ?_
  clear he6
  refine flp2 (go_if_ne (pc := 9) (Y := YX2_hour) 18 dX2_hour_9 (by decide)) ?_ ?_
  · refine im (go_aload_n (pc := 12) (Y := YX2_hour) 0 dX2_hour_12 rfl rfl) ?_
    refine im (go_iconst (pc := 13) (Y := YX2_hour) (v := 1) dX2_hour_13 rfl) ?_
    refine kdg (fun k7 => ?_)
    refine bdg (fun s8 v9 he10 => ?_)
    refine im (go_callV (pc := 14) (Y := YX2_hour) (Yc := YX2_no) (y := yX2_no) (n := 1) (c0 := 2) (q := (RX2, TX2, 37)) this [iV 1] [] rfl rfl k7 (mX2_no s2 he10) YOK_X2_no rfl q1767 q133 q1766 qs67 q1764 (Nat.le_of_ble_eq_true rfl) (Nat.le_of_ble_eq_true rfl) (Nat.le_of_ble_eq_true rfl) dX2_hour_14 (st2 := [iV v9]) rfl) ?_
    clear he10
    refine e2 (fun q0 q1 => ?_)
    subst q0
    subst q1
    exact go_iret (pc := 17) (Y := YX2_hour) rfl dX2_hour_17
  · refine im (go_aload_n (pc := 18) (Y := YX2_hour) 0 dX2_hour_18 rfl rfl) ?_
    refine kdg (fun k11 => ?_)
    refine bpg (fun s12 he13 => ?_)
    refine im (go_callV (pc := 19) (Y := YX2_hour) (Yc := YX2_asNow) (y := yX2_asNow) (n := 0) (c0 := 2) (q := (RX2, TX2, 37)) this [] [] rfl rfl k11 (mX2_asNow s2 he13) YOK_X2_asNow rfl q1981 q133 q1980 qs102 q1978 (Nat.le_of_ble_eq_true rfl) (Nat.le_of_ble_eq_true rfl) (Nat.le_of_ble_eq_true rfl) dX2_hour_19 (st2 := []) rfl) ?_
    clear he13
    refine im (go_iconst (pc := 22) (Y := YX2_hour) (v := 0) dX2_hour_22 rfl) ?_
    refine im (go_istore_n (pc := 23) (Y := YX2_hour) (ls2 := [(2, iV 0), (0, rV (some this)), (1, iV p0)]) dX2_hour_23 rfl (Nat.le_of_ble_eq_true rfl) rfl) ?_
    refine lcg (fun o26 he24 h25 => ?_)
    refine go_sub [1, 2, 0] rfl (sX2_hour_L24_go this p0 FU _ _ _ he24 h25.1 (fun s23 hq => ?_))
    have hw := h25.2 s23 hq
    clear he24
    revert hw
    refine im (go_bipush (pc := 65) (Y := YX2_hour) (v := -2) dX2_hour_65 rfl) ?_
    refine e2 (fun q0 q1 => ?_)
    subst q0
    subst q1
    exact go_iret (pc := 67) (Y := YX2_hour) rfl dX2_hour_67
abbrev YX2_longest : mY := (RX2, cX2_longest, 6, (Option.some .int), 4, 96, false)
theorem YOK_X2_longest : YOK yX2_longest 1 := ⟨⟨by decide +kernel, by decide +kernel⟩, by decide +kernel⟩
theorem sX2_longest_L29_go {G : gG} {s0 sE : St} {rE : Option V3} (this : Nat) (i1 : Int32) : ∀ (n : Nat) (s14 : St) (v15 : Int32) (v16 : Int32) (v17 : Int32) (s18 : St) (v19 : Int32), sX2_longest_L29 this i1 n s14 v15 v16 v17 = some (s18, v19) → Go G YX2_longest s0 sE rE 102 [(2, iV v19)] [] s18 → Go G YX2_longest s0 sE rE 29 [(0, rV (some this)), (1, iV i1), (2, iV v15), (3, iV v16), (4, iV v17)] [] s14 := by
  intro n
  induction n with
  | zero => intro s14 v15 v16 v17 s18 v19 h hx; rw [sX2_longest_L29] at h; cases h
  | succ n ih =>
    intro s14 v15 v16 v17 s18 v19 h hx
    revert h
    rw [sX2_longest_L29]
    refine im (go_iload (pc := 29) (Y := YX2_longest) 4 dX2_longest_29 rfl) ?_
    refine im (go_aload_n (pc := 31) (Y := YX2_longest) 0 dX2_longest_31 rfl rfl) ?_
    refine flp (go_gR (pc := 32) (Y := YX2_longest) fF1011 (by decide) q1648 (Or.inl rfl) dX2_longest_32) (fun v20 => ?_)
    refine im (go_iconst (pc := 35) (Y := YX2_longest) (v := 1) dX2_longest_35 rfl) ?_
    refine flp (go_lI1 (pc := 36) (Y := YX2_longest) dX2_longest_36) (fun v21 => ?_)
    refine flp2 (go_icmp_ge (pc := 37) (Y := YX2_longest) 102 dX2_longest_37 (by decide)) ?_ ?_
    · refine e2 (fun q0 q1 => ?_)
      subst q0
      subst q1
      exact go_sub [2] rfl hx
    · refine im (go_aload_n (pc := 40) (Y := YX2_longest) 0 dX2_longest_40 rfl rfl) ?_
      refine im (go_iload_n (pc := 41) (Y := YX2_longest) 1 dX2_longest_41 rfl rfl) ?_
      refine im (go_iload (pc := 42) (Y := YX2_longest) 4 dX2_longest_42 rfl) ?_
      refine im (go_aload_n (pc := 44) (Y := YX2_longest) 0 dX2_longest_44 rfl rfl) ?_
      refine flp (go_gR (pc := 45) (Y := YX2_longest) fF1011 (by decide) q1648 (Or.inl rfl) dX2_longest_45) (fun v22 => ?_)
      refine im (go_bipush (pc := 48) (Y := YX2_longest) (v := 80) dX2_longest_48 rfl) ?_
      refine im (go_iconst (pc := 50) (Y := YX2_longest) (v := 5) dX2_longest_50 rfl) ?_
      refine im (go_iload_n (pc := 51) (Y := YX2_longest) 1 dX2_longest_51 rfl rfl) ?_
      refine im (go_imul (pc := 52) (Y := YX2_longest) dX2_longest_52) ?_
      refine im (go_iadd (pc := 53) (Y := YX2_longest) dX2_longest_53) ?_
      refine im (go_iconst (pc := 54) (Y := YX2_longest) (v := 3) dX2_longest_54 rfl) ?_
      refine im (go_iadd (pc := 55) (Y := YX2_longest) dX2_longest_55) ?_
      refine flp (go_lI1 (pc := 56) (Y := YX2_longest) dX2_longest_56) (fun v23 => ?_)
      refine im (go_iconst (pc := 57) (Y := YX2_longest) (v := 0) dX2_longest_57 rfl) ?_
      refine kdg (fun k24 => ?_)
      refine bpg (fun s25 he26 => ?_)
      refine im (go_callV (pc := 58) (Y := YX2_longest) (Yc := YX2_run) (y := yX2_run) (n := 4) (c0 := 2) (q := (RX2, TX2, 37)) this [iV i1, iV v17, iV v23, iV 0] [] rfl rfl k24 (mX2_run s14 he26) YOK_X2_run rfl q2044 q133 q2043 qs111 q2041 (Nat.le_of_ble_eq_true rfl) (Nat.le_of_ble_eq_true rfl) (Nat.le_of_ble_eq_true rfl) dX2_longest_58 (st2 := []) rfl) ?_
      clear he26
      refine im (go_aload_n (pc := 61) (Y := YX2_longest) 0 dX2_longest_61 rfl rfl) ?_
      refine flp (go_gI (pc := 62) (Y := YX2_longest) fF34 (by decide) q1658 (Or.inl rfl) dX2_longest_62) (fun v27 => ?_)
      refine im (go_bipush (pc := 65) (Y := YX2_longest) (v := -2) dX2_longest_65 rfl) ?_
      refine bpg (fun v28 he34 h35 => ?_)
      have hj79 : Go G YX2_longest s0 sE rE 79 [(0, rV (some this)), (1, iV i1), (2, iV v15), (3, iV v16), (4, iV v17)] [iV v28] s25 := by
        clear he34
        revert h35
        refine im (go_istore (pc := 79) (Y := YX2_longest) (ls2 := [(5, iV v28), (0, rV (some this)), (1, iV i1), (2, iV v15), (3, iV v16), (4, iV v17)]) dX2_longest_79 (Nat.le_of_ble_eq_true rfl) rfl) ?_
        refine im (go_iload (pc := 81) (Y := YX2_longest) 0 dX2_longest_81 rfl) ?_
        refine im (go_iload_n (pc := 83) (Y := YX2_longest) 4 dX2_longest_83 rfl rfl) ?_
        refine b2g (fun v29 v30 he31 h32 => ?_)
        have hj96 : Go G YX2_longest s0 sE rE 96 [(0, rV (some this)), (1, iV i1), (2, iV v29), (3, iV v30), (4, iV v17)] [] s25 := by
          clear he31
          revert h32
          refine im (go_iinc (pc := 96) (Y := YX2_longest) 4 (v := (v17 + 1)) (ls2 := [(4, iV (v17 + 1)), (0, rV (some this)), (1, iV i1), (2, iV v29), (3, iV v30)]) dX2_longest_96 rfl rfl (Nat.le_of_ble_eq_true rfl) rfl) ?_
          refine im (go_goto (pc := 99) (Y := YX2_longest) 29 dX2_longest_99 (by decide)) ?_
          exact fun hq => go_sub [1, 2, 3, 4, 0] rfl (ih _ _ _ _ _ _ hq hx)
        clear h32
        revert he31
        refine flp2 (go_icmp_gt (pc := 84) (Y := YX2_longest) 90 dX2_longest_84 (by decide)) ?_ ?_
        · refine im (go_iload (pc := 90) (Y := YX2_longest) 5 dX2_longest_90 rfl) ?_
          refine im (go_istore_n (pc := 92) (Y := YX2_longest) (ls2 := [(2, iV v17), (5, iV v28), (0, rV (some this)), (1, iV i1), (3, iV v16), (4, iV v17)]) dX2_longest_92 rfl (Nat.le_of_ble_eq_true rfl) rfl) ?_
          refine im (go_iload (pc := 93) (Y := YX2_longest) 1 dX2_longest_93 rfl) ?_
          refine im (go_istore_n (pc := 95) (Y := YX2_longest) (ls2 := [(3, iV v28), (2, iV v17), (5, iV v28), (0, rV (some this)), (1, iV i1), (4, iV v17)]) dX2_longest_95 rfl (Nat.le_of_ble_eq_true rfl) rfl) ?_
          refine e2 (fun q0 q1 => ?_)
          subst q0
          subst q1
          exact go_sub [3, 4, 1, 0, 5] rfl hj96
        · refine im (go_goto (pc := 87) (Y := YX2_longest) 96 dX2_longest_87 (by decide)) ?_
          refine e2 (fun q0 q1 => ?_)
          subst q0
          subst q1
          exact go_sub [1, 2, 3, 4, 5] rfl hj96
      clear h35
      revert he34
      refine flp2 (go_icmp_ne (pc := 67) (Y := YX2_longest) 75 dX2_longest_67 (by decide)) ?_ ?_
      · refine im (go_bipush (pc := 70) (Y := YX2_longest) (v := 60) dX2_longest_70 rfl) ?_
        refine im (go_goto (pc := 72) (Y := YX2_longest) 79 dX2_longest_72 (by decide)) ?_
        refine e1 (fun q0 => ?_)
        subst q0
        exact go_sub [0, 1, 2, 3, 4] rfl hj79
      · refine im (go_aload_n (pc := 75) (Y := YX2_longest) 0 dX2_longest_75 rfl rfl) ?_
        refine flp (go_gI (pc := 76) (Y := YX2_longest) fF35 (by decide) q1659 (Or.inl rfl) dX2_longest_76) (fun v33 => ?_)
        refine e1 (fun q0 => ?_)
        subst q0
        exact go_sub [0, 1, 2, 3, 4] rfl hj79
theorem mX2_longest {G : gG} (s0 : St) {this : Nat} {p0 : Int32} {sE : St} {vE : Int32} (h : sX2_longest s0 this p0 = some (sE, vE)) : Mt G YX2_longest yX2_longest [rV (some this), iV p0] s0 (some (iV vE)) sE := by
  refine go_start (ls0 := [(0, rV (some this)), (1, iV p0)]) (by decide +kernel) rfl (fun h => by cases h) (Nat.le_of_ble_eq_true rfl) rfl ?_
  revert h
  unfold sX2_longest
  refine im (go_aload_n (pc := 0) (Y := YX2_longest) 0 dX2_longest_0 rfl rfl) ?_
  refine kdg (fun k1 => ?_)
  refine bpg (fun s2 he3 => ?_)
  refine im (go_callV (pc := 1) (Y := YX2_longest) (Yc := YX2_good) (y := yX2_good) (n := 0) (c0 := 2) (q := (RX2, TX2, 37)) this [] [] rfl rfl k1 (mX2_good s0 he3) YOK_X2_good rfl q1760 q133 q1759 qs66 q1757 (Nat.le_of_ble_eq_true rfl) (Nat.le_of_ble_eq_true rfl) (Nat.le_of_ble_eq_true rfl) dX2_longest_1 (st2 := []) rfl) ?_
  clear he3
  refine im (go_aload_n (pc := 4) (Y := YX2_longest) 0 dX2_longest_4 rfl rfl) ?_
  refine im (go_iload_n (pc := 5) (Y := YX2_longest) 1 dX2_longest_5 rfl rfl) ?_
  refine kdg (fun k4 => ?_)
  refine bpg (fun v5 he6 => ?_)
  refine im (go_callV (pc := 6) (Y := YX2_longest) (Yc := YX2_isQuarrel) (y := yX2_isQuarrel) (n := 1) (c0 := 2) (q := (RX2, TX2, 37)) this [iV p0] [] rfl rfl k4 (mX2_isQuarrel s2 he6) YOK_X2_isQuarrel rfl q1965 q133 q1964 qs99 q1962 (Nat.le_of_ble_eq_true rfl) (Nat.le_of_ble_eq_true rfl) (Nat.le_of_ble_eq_true rfl) dX2_longest_6 (st2 := [iV v5]) rfl) ?_
  clear he6
  refine flp2 (go_if_ne (pc := 9) (Y := YX2_longest) 18 dX2_longest_9 (by decide)) ?_ ?_
  · refine im (go_aload_n (pc := 12) (Y := YX2_longest) 0 dX2_longest_12 rfl rfl) ?_
    refine im (go_iconst (pc := 13) (Y := YX2_longest) (v := 1) dX2_longest_13 rfl) ?_
    refine kdg (fun k7 => ?_)
    refine bdg (fun s8 v9 he10 => ?_)
    refine im (go_callV (pc := 14) (Y := YX2_longest) (Yc := YX2_no) (y := yX2_no) (n := 1) (c0 := 2) (q := (RX2, TX2, 37)) this [iV 1] [] rfl rfl k7 (mX2_no s2 he10) YOK_X2_no rfl q1767 q133 q1766 qs67 q1764 (Nat.le_of_ble_eq_true rfl) (Nat.le_of_ble_eq_true rfl) (Nat.le_of_ble_eq_true rfl) dX2_longest_14 (st2 := [iV v9]) rfl) ?_
    clear he10
    refine e2 (fun q0 q1 => ?_)
    subst q0
    subst q1
    exact go_iret (pc := 17) (Y := YX2_longest) rfl dX2_longest_17
  · refine im (go_aload_n (pc := 18) (Y := YX2_longest) 0 dX2_longest_18 rfl rfl) ?_
    refine kdg (fun k11 => ?_)
    refine bpg (fun s12 he13 => ?_)
    refine im (go_callV (pc := 19) (Y := YX2_longest) (Yc := YX2_asNow) (y := yX2_asNow) (n := 0) (c0 := 2) (q := (RX2, TX2, 37)) this [] [] rfl rfl k11 (mX2_asNow s2 he13) YOK_X2_asNow rfl q1981 q133 q1980 qs102 q1978 (Nat.le_of_ble_eq_true rfl) (Nat.le_of_ble_eq_true rfl) (Nat.le_of_ble_eq_true rfl) dX2_longest_19 (st2 := []) rfl) ?_
    clear he13
    refine im (go_iconst (pc := 22) (Y := YX2_longest) (v := 0) dX2_longest_22 rfl) ?_
    refine im (go_istore_n (pc := 23) (Y := YX2_longest) (ls2 := [(2, iV 0), (0, rV (some this)), (1, iV p0)]) dX2_longest_23 rfl (Nat.le_of_ble_eq_true rfl) rfl) ?_
    refine im (go_iconst (pc := 24) (Y := YX2_longest) (v := -1) dX2_longest_24 rfl) ?_
    refine im (go_istore_n (pc := 25) (Y := YX2_longest) (ls2 := [(3, iV (-1)), (2, iV 0), (0, rV (some this)), (1, iV p0)]) dX2_longest_25 rfl (Nat.le_of_ble_eq_true rfl) rfl) ?_
    refine im (go_iconst (pc := 26) (Y := YX2_longest) (v := 0) dX2_longest_26 rfl) ?_
    refine im (go_istore (pc := 27) (Y := YX2_longest) (ls2 := [(4, iV 0), (3, iV (-1)), (2, iV 0), (0, rV (some this)), (1, iV p0)]) dX2_longest_27 (Nat.le_of_ble_eq_true rfl) rfl) ?_
    refine b2g (fun s36 v37 he38 h39 => ?_)
    refine go_sub [3, 4, 2, 1, 0] rfl (sX2_longest_L29_go this p0 FU _ _ _ _ _ _ he38 ?_)
    clear he38
    revert h39
    refine im (go_iload_n (pc := 102) (Y := YX2_longest) 0 dX2_longest_102 rfl rfl) ?_
    refine e2 (fun q0 q1 => ?_)
    subst q0
    subst q1
    exact go_iret (pc := 103) (Y := YX2_longest) rfl dX2_longest_103
abbrev YX2_moor : mY := (RX2, cX2_moor, 4, (Option.some .int), 4, 96, false)
theorem YOK_X2_moor : YOK yX2_moor 1 := ⟨⟨by decide +kernel, by decide +kernel⟩, by decide +kernel⟩
theorem sX2_moor_L32_go {G : gG} {s0 : St} {sE : St} {vE : Int32} (this : Nat) (i1 : Int32) (i2 : Int32) : ∀ (n : Nat) (s17 : St) (v18 : Int32) (o : (St × Int32) ⊕ (St)), sX2_moor_L32 this i1 i2 n s17 v18 = some o → (∀ r, o = .inl r → r = (sE, vE)) → (∀ (s19 : St), o = .inr s19 → Go G YX2_moor s0 sE (some (iV vE)) 70 [(0, rV (some this)), (1, iV i1), (2, iV i2)] [] s19) → Go G YX2_moor s0 sE (some (iV vE)) 32 [(0, rV (some this)), (1, iV i1), (2, iV i2), (3, iV v18)] [] s17 := by
  intro n
  induction n with
  | zero => intro s17 v18 o h hr hx; rw [sX2_moor_L32] at h; cases h
  | succ n ih =>
    intro s17 v18 o h hr hx
    revert h
    rw [sX2_moor_L32]
    refine im (go_iload_n (pc := 32) (Y := YX2_moor) 3 dX2_moor_32 rfl rfl) ?_
    refine im (go_aload_n (pc := 33) (Y := YX2_moor) 0 dX2_moor_33 rfl rfl) ?_
    refine flp (go_gR (pc := 34) (Y := YX2_moor) fF1011 (by decide) q1648 (Or.inl rfl) dX2_moor_34) (fun v20 => ?_)
    refine im (go_iconst (pc := 37) (Y := YX2_moor) (v := 1) dX2_moor_37 rfl) ?_
    refine flp (go_lI1 (pc := 38) (Y := YX2_moor) dX2_moor_38) (fun v21 => ?_)
    refine flp2 (go_icmp_ge (pc := 39) (Y := YX2_moor) 70 dX2_moor_39 (by decide)) ?_ ?_
    · refine eor (fun hq => ?_)
      exact go_sub [0, 1, 2] rfl (hx _ hq)
    · refine im (go_aload_n (pc := 42) (Y := YX2_moor) 0 dX2_moor_42 rfl rfl) ?_
      refine im (go_iload_n (pc := 43) (Y := YX2_moor) 1 dX2_moor_43 rfl rfl) ?_
      refine im (go_iload_n (pc := 44) (Y := YX2_moor) 3 dX2_moor_44 rfl rfl) ?_
      refine im (go_iload_n (pc := 45) (Y := YX2_moor) 2 dX2_moor_45 rfl rfl) ?_
      refine im (go_iconst (pc := 46) (Y := YX2_moor) (v := 0) dX2_moor_46 rfl) ?_
      refine kdg (fun k22 => ?_)
      refine bpg (fun s23 he24 => ?_)
      refine im (go_callV (pc := 47) (Y := YX2_moor) (Yc := YX2_run) (y := yX2_run) (n := 4) (c0 := 2) (q := (RX2, TX2, 37)) this [iV i1, iV v18, iV i2, iV 0] [] rfl rfl k22 (mX2_run s17 he24) YOK_X2_run rfl q2044 q133 q2043 qs111 q2041 (Nat.le_of_ble_eq_true rfl) (Nat.le_of_ble_eq_true rfl) (Nat.le_of_ble_eq_true rfl) dX2_moor_47 (st2 := []) rfl) ?_
      clear he24
      refine im (go_aload_n (pc := 50) (Y := YX2_moor) 0 dX2_moor_50 rfl rfl) ?_
      refine flp (go_gI (pc := 51) (Y := YX2_moor) fF34 (by decide) q1658 (Or.inl rfl) dX2_moor_51) (fun v25 => ?_)
      refine flp2 (go_if_le (pc := 54) (Y := YX2_moor) 64 dX2_moor_54 (by decide)) ?_ ?_
      · refine im (go_iinc (pc := 64) (Y := YX2_moor) 3 (v := (v18 + 1)) (ls2 := [(3, iV (v18 + 1)), (0, rV (some this)), (1, iV i1), (2, iV i2)]) dX2_moor_64 rfl rfl (Nat.le_of_ble_eq_true rfl) rfl) ?_
        refine im (go_goto (pc := 67) (Y := YX2_moor) 32 dX2_moor_67 (by decide)) ?_
        exact fun hq => go_sub [1, 2, 3, 0] rfl (ih _ _ _ hq hr hx)
      · refine im (go_bipush (pc := 57) (Y := YX2_moor) (v := 10) dX2_moor_57 rfl) ?_
        refine im (go_iload_n (pc := 59) (Y := YX2_moor) 2 dX2_moor_59 rfl rfl) ?_
        refine im (go_imul (pc := 60) (Y := YX2_moor) dX2_moor_60) ?_
        refine im (go_iload_n (pc := 61) (Y := YX2_moor) 3 dX2_moor_61 rfl rfl) ?_
        refine im (go_iadd (pc := 62) (Y := YX2_moor) dX2_moor_62) ?_
        refine eor (fun hq => ?_)
        have hq2 := hr _ hq
        obtain ⟨q0, q1⟩ := Prod.mk.inj hq2
        subst q0
        subst q1
        exact go_iret (pc := 63) (Y := YX2_moor) rfl dX2_moor_63
theorem sX2_moor_L24_go {G : gG} {s0 : St} {sE : St} {vE : Int32} (this : Nat) (i1 : Int32) : ∀ (n : Nat) (s14 : St) (v15 : Int32) (o : (St × Int32) ⊕ (St)), sX2_moor_L24 this i1 n s14 v15 = some o → (∀ r, o = .inl r → r = (sE, vE)) → (∀ (s16 : St), o = .inr s16 → Go G YX2_moor s0 sE (some (iV vE)) 76 [] [] s16) → Go G YX2_moor s0 sE (some (iV vE)) 24 [(0, rV (some this)), (1, iV i1), (2, iV v15)] [] s14 := by
  intro n
  induction n with
  | zero => intro s14 v15 o h hr hx; rw [sX2_moor_L24] at h; cases h
  | succ n ih =>
    intro s14 v15 o h hr hx
    revert h
    rw [sX2_moor_L24]
    refine im (go_iload_n (pc := 24) (Y := YX2_moor) 2 dX2_moor_24 rfl rfl) ?_
    refine im (go_bipush (pc := 25) (Y := YX2_moor) (v := 59) dX2_moor_25 rfl) ?_
    refine flp2 (go_icmp_gt (pc := 27) (Y := YX2_moor) 76 dX2_moor_27 (by decide)) ?_ ?_
    · refine eor (fun hq => ?_)
      exact go_sub [] rfl (hx _ hq)
    · refine im (go_iconst (pc := 30) (Y := YX2_moor) (v := 0) dX2_moor_30 rfl) ?_
      refine im (go_istore_n (pc := 31) (Y := YX2_moor) (ls2 := [(3, iV 0), (0, rV (some this)), (1, iV i1), (2, iV v15)]) dX2_moor_31 rfl (Nat.le_of_ble_eq_true rfl) rfl) ?_
      refine lcIg (fun o29 he27 h28 => ?_)
      refine go_sub [1, 2, 3, 0] rfl (sX2_moor_L32_go this i1 v15 FU _ _ _ he27 (fun r hq => hr r (h28.1 r hq)) (fun s26 hq => ?_))
      have hw := h28.2 s26 hq
      clear he27
      revert hw
      refine im (go_iinc (pc := 70) (Y := YX2_moor) 2 (v := (v15 + 1)) (ls2 := [(2, iV (v15 + 1)), (0, rV (some this)), (1, iV i1)]) dX2_moor_70 rfl rfl (Nat.le_of_ble_eq_true rfl) rfl) ?_
      refine im (go_goto (pc := 73) (Y := YX2_moor) 24 dX2_moor_73 (by decide)) ?_
      exact fun hq => go_sub [1, 2, 0] rfl (ih _ _ _ hq hr hx)
theorem mX2_moor {G : gG} (s0 : St) {this : Nat} {p0 : Int32} {sE : St} {vE : Int32} (h : sX2_moor s0 this p0 = some (sE, vE)) : Mt G YX2_moor yX2_moor [rV (some this), iV p0] s0 (some (iV vE)) sE := by
  refine go_start (ls0 := [(0, rV (some this)), (1, iV p0)]) (by decide +kernel) rfl (fun h => by cases h) (Nat.le_of_ble_eq_true rfl) rfl ?_
  revert h
  unfold sX2_moor
  refine im (go_aload_n (pc := 0) (Y := YX2_moor) 0 dX2_moor_0 rfl rfl) ?_
  refine kdg (fun k1 => ?_)
  refine bpg (fun s2 he3 => ?_)
  refine im (go_callV (pc := 1) (Y := YX2_moor) (Yc := YX2_good) (y := yX2_good) (n := 0) (c0 := 2) (q := (RX2, TX2, 37)) this [] [] rfl rfl k1 (mX2_good s0 he3) YOK_X2_good rfl q1760 q133 q1759 qs66 q1757 (Nat.le_of_ble_eq_true rfl) (Nat.le_of_ble_eq_true rfl) (Nat.le_of_ble_eq_true rfl) dX2_moor_1 (st2 := []) rfl) ?_
  clear he3
  refine im (go_aload_n (pc := 4) (Y := YX2_moor) 0 dX2_moor_4 rfl rfl) ?_
  refine im (go_iload_n (pc := 5) (Y := YX2_moor) 1 dX2_moor_5 rfl rfl) ?_
  refine kdg (fun k4 => ?_)
  refine bpg (fun v5 he6 => ?_)
  refine im (go_callV (pc := 6) (Y := YX2_moor) (Yc := YX2_isQuarrel) (y := yX2_isQuarrel) (n := 1) (c0 := 2) (q := (RX2, TX2, 37)) this [iV p0] [] rfl rfl k4 (mX2_isQuarrel s2 he6) YOK_X2_isQuarrel rfl q1965 q133 q1964 qs99 q1962 (Nat.le_of_ble_eq_true rfl) (Nat.le_of_ble_eq_true rfl) (Nat.le_of_ble_eq_true rfl) dX2_moor_6 (st2 := [iV v5]) rfl) ?_
  clear he6
  refine flp2 (go_if_ne (pc := 9) (Y := YX2_moor) 18 dX2_moor_9 (by decide)) ?_ ?_
  · refine im (go_aload_n (pc := 12) (Y := YX2_moor) 0 dX2_moor_12 rfl rfl) ?_
    refine im (go_iconst (pc := 13) (Y := YX2_moor) (v := 1) dX2_moor_13 rfl) ?_
    refine kdg (fun k7 => ?_)
    refine bdg (fun s8 v9 he10 => ?_)
    refine im (go_callV (pc := 14) (Y := YX2_moor) (Yc := YX2_no) (y := yX2_no) (n := 1) (c0 := 2) (q := (RX2, TX2, 37)) this [iV 1] [] rfl rfl k7 (mX2_no s2 he10) YOK_X2_no rfl q1767 q133 q1766 qs67 q1764 (Nat.le_of_ble_eq_true rfl) (Nat.le_of_ble_eq_true rfl) (Nat.le_of_ble_eq_true rfl) dX2_moor_14 (st2 := [iV v9]) rfl) ?_
    clear he10
    refine e2 (fun q0 q1 => ?_)
    subst q0
    subst q1
    exact go_iret (pc := 17) (Y := YX2_moor) rfl dX2_moor_17
  · refine im (go_aload_n (pc := 18) (Y := YX2_moor) 0 dX2_moor_18 rfl rfl) ?_
    refine kdg (fun k11 => ?_)
    refine bpg (fun s12 he13 => ?_)
    refine im (go_callV (pc := 19) (Y := YX2_moor) (Yc := YX2_asNow) (y := yX2_asNow) (n := 0) (c0 := 2) (q := (RX2, TX2, 37)) this [] [] rfl rfl k11 (mX2_asNow s2 he13) YOK_X2_asNow rfl q1981 q133 q1980 qs102 q1978 (Nat.le_of_ble_eq_true rfl) (Nat.le_of_ble_eq_true rfl) (Nat.le_of_ble_eq_true rfl) dX2_moor_19 (st2 := []) rfl) ?_
    clear he13
    refine im (go_iconst (pc := 22) (Y := YX2_moor) (v := 0) dX2_moor_22 rfl) ?_
    refine im (go_istore_n (pc := 23) (Y := YX2_moor) (ls2 := [(2, iV 0), (0, rV (some this)), (1, iV p0)]) dX2_moor_23 rfl (Nat.le_of_ble_eq_true rfl) rfl) ?_
    refine lcg (fun o33 he31 h32 => ?_)
    refine go_sub [1, 2, 0] rfl (sX2_moor_L24_go this p0 FU _ _ _ he31 h32.1 (fun s30 hq => ?_))
    have hw := h32.2 s30 hq
    clear he31
    revert hw
    refine im (go_bipush (pc := 76) (Y := YX2_moor) (v := -2) dX2_moor_76 rfl) ?_
    refine e2 (fun q0 q1 => ?_)
    subst q0
    subst q1
    exact go_iret (pc := 78) (Y := YX2_moor) rfl dX2_moor_78
abbrev YX2_bricks : mY := (RX2, cX2_bricks, 4, (Option.some .int), 5, 117, false)
theorem YOK_X2_bricks : YOK yX2_bricks 1 := ⟨⟨by decide +kernel, by decide +kernel⟩, by decide +kernel⟩
theorem sX2_bricks_L27_go {G : gG} {s0 sE : St} {rE : Option V3} (this : Nat) (i1 : Int32) : ∀ (n : Nat) (s14 : St) (v15 : Int32) (v16 : Int32) (s17 : St) (v18 : Int32), sX2_bricks_L27 this i1 n s14 v15 v16 = some (s17, v18) → Go G YX2_bricks s0 sE rE 105 [(2, iV v18)] [] s17 → Go G YX2_bricks s0 sE rE 27 [(0, rV (some this)), (1, iV i1), (2, iV v15), (3, iV v16)] [] s14 := by
  intro n
  induction n with
  | zero => intro s14 v15 v16 s17 v18 h hx; rw [sX2_bricks_L27] at h; cases h
  | succ n ih =>
    intro s14 v15 v16 s17 v18 h hx
    revert h
    rw [sX2_bricks_L27]
    refine im (go_iload_n (pc := 27) (Y := YX2_bricks) 3 dX2_bricks_27 rfl rfl) ?_
    refine im (go_iconst (pc := 28) (Y := YX2_bricks) (v := 1) dX2_bricks_28 rfl) ?_
    refine im (go_aload_n (pc := 29) (Y := YX2_bricks) 0 dX2_bricks_29 rfl rfl) ?_
    refine flp (go_gR (pc := 30) (Y := YX2_bricks) fF1011 (by decide) q1648 (Or.inl rfl) dX2_bricks_30) (fun v19 => ?_)
    refine im (go_iconst (pc := 33) (Y := YX2_bricks) (v := 2) dX2_bricks_33 rfl) ?_
    refine flp (go_lI1 (pc := 34) (Y := YX2_bricks) dX2_bricks_34) (fun v20 => ?_)
    refine im (go_ishl (pc := 35) (Y := YX2_bricks) dX2_bricks_35) ?_
    refine flp2 (go_icmp_ge (pc := 36) (Y := YX2_bricks) 105 dX2_bricks_36 (by decide)) ?_ ?_
    · refine e2 (fun q0 q1 => ?_)
      subst q0
      subst q1
      exact go_sub [2] rfl hx
    · refine im (go_iload_n (pc := 39) (Y := YX2_bricks) 3 dX2_bricks_39 rfl rfl) ?_
      refine im (go_aload_n (pc := 40) (Y := YX2_bricks) 0 dX2_bricks_40 rfl rfl) ?_
      refine flp (go_gR (pc := 41) (Y := YX2_bricks) fF1013 (by decide) q1650 (Or.inl rfl) dX2_bricks_41) (fun v21 => ?_)
      refine im (go_bipush (pc := 44) (Y := YX2_bricks) (v := 6) dX2_bricks_44 rfl) ?_
      refine flp (go_lI1 (pc := 46) (Y := YX2_bricks) dX2_bricks_46) (fun v22 => ?_)
      refine im (go_iand (pc := 47) (Y := YX2_bricks) dX2_bricks_47) ?_
      refine b2g (fun s23 v24 he45 h46 => ?_)
      have hj99 : Go G YX2_bricks s0 sE rE 99 [(0, rV (some this)), (1, iV i1), (2, iV v24), (3, iV v16)] [] s23 := by
        clear he45
        revert h46
        refine im (go_iinc (pc := 99) (Y := YX2_bricks) 3 (v := (v16 + 1)) (ls2 := [(3, iV (v16 + 1)), (0, rV (some this)), (1, iV i1), (2, iV v24)]) dX2_bricks_99 rfl rfl (Nat.le_of_ble_eq_true rfl) rfl) ?_
        refine im (go_goto (pc := 102) (Y := YX2_bricks) 27 dX2_bricks_102 (by decide)) ?_
        exact fun hq => go_sub [1, 2, 3, 0] rfl (ih _ _ _ _ _ hq hx)
      clear h46
      revert he45
      refine flp2 (go_if_ne (pc := 48) (Y := YX2_bricks) 99 dX2_bricks_48 (by decide)) ?_ ?_
      · refine im (go_iload_n (pc := 51) (Y := YX2_bricks) 2 dX2_bricks_51 rfl rfl) ?_
        refine flp2 (go_if_lt (pc := 52) (Y := YX2_bricks) 69 dX2_bricks_52 (by decide)) ?_ ?_
        · refine im (go_aload_n (pc := 69) (Y := YX2_bricks) 0 dX2_bricks_69 rfl rfl) ?_
          refine flp (go_gR (pc := 70) (Y := YX2_bricks) fF1016 (by decide) q1655 (Or.inl rfl) dX2_bricks_70) (fun v25 => ?_)
          refine im (go_bipush (pc := 73) (Y := YX2_bricks) (v := 6) dX2_bricks_73 rfl) ?_
          refine im (go_aload_n (pc := 75) (Y := YX2_bricks) 0 dX2_bricks_75 rfl rfl) ?_
          refine flp (go_gR (pc := 76) (Y := YX2_bricks) fF1013 (by decide) q1650 (Or.inl rfl) dX2_bricks_76) (fun v26 => ?_)
          refine im (go_bipush (pc := 79) (Y := YX2_bricks) (v := 6) dX2_bricks_79 rfl) ?_
          refine flp (go_lI1 (pc := 81) (Y := YX2_bricks) dX2_bricks_81) (fun v27 => ?_)
          refine im (go_iload_n (pc := 82) (Y := YX2_bricks) 3 dX2_bricks_82 rfl rfl) ?_
          refine im (go_ior (pc := 83) (Y := YX2_bricks) dX2_bricks_83) ?_
          refine flp (go_tI (pc := 84) (Y := YX2_bricks) dX2_bricks_84) (fun s28 => ?_)
          refine im (go_aload_n (pc := 85) (Y := YX2_bricks) 0 dX2_bricks_85 rfl rfl) ?_
          refine im (go_iload_n (pc := 86) (Y := YX2_bricks) 1 dX2_bricks_86 rfl rfl) ?_
          refine kdg (fun k29 => ?_)
          refine bpg (fun s30 he31 => ?_)
          refine im (go_callV (pc := 87) (Y := YX2_bricks) (Yc := YX2_runTold) (y := yX2_runTold) (n := 1) (c0 := 2) (q := (RX2, TX2, 37)) this [iV i1] [] rfl rfl k29 (mX2_runTold s28 he31) YOK_X2_runTold rfl q2040 q133 q2039 qs110 q2037 (Nat.le_of_ble_eq_true rfl) (Nat.le_of_ble_eq_true rfl) (Nat.le_of_ble_eq_true rfl) dX2_bricks_87 (st2 := []) rfl) ?_
          clear he31
          refine im (go_aload_n (pc := 90) (Y := YX2_bricks) 0 dX2_bricks_90 rfl rfl) ?_
          refine flp (go_gI (pc := 91) (Y := YX2_bricks) fF34 (by decide) q1658 (Or.inl rfl) dX2_bricks_91) (fun v32 => ?_)
          refine flp2 (go_if_le (pc := 94) (Y := YX2_bricks) 99 dX2_bricks_94 (by decide)) ?_ ?_
          · refine e2 (fun q0 q1 => ?_)
            subst q0
            subst q1
            exact go_sub [0, 1, 2, 3] rfl hj99
          · refine im (go_iload_n (pc := 97) (Y := YX2_bricks) 3 dX2_bricks_97 rfl rfl) ?_
            refine im (go_istore_n (pc := 98) (Y := YX2_bricks) (ls2 := [(2, iV v16), (0, rV (some this)), (1, iV i1), (3, iV v16)]) dX2_bricks_98 rfl (Nat.le_of_ble_eq_true rfl) rfl) ?_
            refine e2 (fun q0 q1 => ?_)
            subst q0
            subst q1
            exact go_sub [1, 2, 0, 3] rfl hj99
        · refine im (go_iload_n (pc := 55) (Y := YX2_bricks) 3 dX2_bricks_55 rfl rfl) ?_
          refine bpg (fun v33 he34 => ?_)
          refine im (go_callS (pc := 56) (Y := YX2_bricks) (Yc := YX2_ones) (y := yX2_ones) (n := 1) [iV v16] [] rfl (mX2_ones s14 he34) YOK_X2_ones rfl q2080 q133 q2079 q2078 (Nat.le_of_ble_eq_true rfl) (Nat.le_of_ble_eq_true rfl) (Nat.le_of_ble_eq_true rfl) dX2_bricks_56 (st2 := [iV v33]) rfl) ?_
          clear he34
          refine im (go_iload_n (pc := 59) (Y := YX2_bricks) 2 dX2_bricks_59 rfl rfl) ?_
          refine bpg (fun v35 he36 => ?_)
          refine im (go_callS (pc := 60) (Y := YX2_bricks) (Yc := YX2_ones) (y := yX2_ones) (n := 1) [iV v15] [iV v33] rfl (mX2_ones s14 he36) YOK_X2_ones rfl q2080 q133 q2079 q2078 (Nat.le_of_ble_eq_true rfl) (Nat.le_of_ble_eq_true rfl) (Nat.le_of_ble_eq_true rfl) dX2_bricks_60 (st2 := [iV v35, iV v33]) rfl) ?_
          clear he36
          refine flp2 (go_icmp_lt (pc := 63) (Y := YX2_bricks) 69 dX2_bricks_63 (by decide)) ?_ ?_
          · refine im (go_aload_n (pc := 69) (Y := YX2_bricks) 0 dX2_bricks_69 rfl rfl) ?_
            refine flp (go_gR (pc := 70) (Y := YX2_bricks) fF1016 (by decide) q1655 (Or.inl rfl) dX2_bricks_70) (fun v37 => ?_)
            refine im (go_bipush (pc := 73) (Y := YX2_bricks) (v := 6) dX2_bricks_73 rfl) ?_
            refine im (go_aload_n (pc := 75) (Y := YX2_bricks) 0 dX2_bricks_75 rfl rfl) ?_
            refine flp (go_gR (pc := 76) (Y := YX2_bricks) fF1013 (by decide) q1650 (Or.inl rfl) dX2_bricks_76) (fun v38 => ?_)
            refine im (go_bipush (pc := 79) (Y := YX2_bricks) (v := 6) dX2_bricks_79 rfl) ?_
            refine flp (go_lI1 (pc := 81) (Y := YX2_bricks) dX2_bricks_81) (fun v39 => ?_)
            refine im (go_iload_n (pc := 82) (Y := YX2_bricks) 3 dX2_bricks_82 rfl rfl) ?_
            refine im (go_ior (pc := 83) (Y := YX2_bricks) dX2_bricks_83) ?_
            refine flp (go_tI (pc := 84) (Y := YX2_bricks) dX2_bricks_84) (fun s40 => ?_)
            refine im (go_aload_n (pc := 85) (Y := YX2_bricks) 0 dX2_bricks_85 rfl rfl) ?_
            refine im (go_iload_n (pc := 86) (Y := YX2_bricks) 1 dX2_bricks_86 rfl rfl) ?_
            refine kdg (fun k41 => ?_)
            refine bpg (fun s42 he43 => ?_)
            refine im (go_callV (pc := 87) (Y := YX2_bricks) (Yc := YX2_runTold) (y := yX2_runTold) (n := 1) (c0 := 2) (q := (RX2, TX2, 37)) this [iV i1] [] rfl rfl k41 (mX2_runTold s40 he43) YOK_X2_runTold rfl q2040 q133 q2039 qs110 q2037 (Nat.le_of_ble_eq_true rfl) (Nat.le_of_ble_eq_true rfl) (Nat.le_of_ble_eq_true rfl) dX2_bricks_87 (st2 := []) rfl) ?_
            clear he43
            refine im (go_aload_n (pc := 90) (Y := YX2_bricks) 0 dX2_bricks_90 rfl rfl) ?_
            refine flp (go_gI (pc := 91) (Y := YX2_bricks) fF34 (by decide) q1658 (Or.inl rfl) dX2_bricks_91) (fun v44 => ?_)
            refine flp2 (go_if_le (pc := 94) (Y := YX2_bricks) 99 dX2_bricks_94 (by decide)) ?_ ?_
            · refine e2 (fun q0 q1 => ?_)
              subst q0
              subst q1
              exact go_sub [0, 1, 2, 3] rfl hj99
            · refine im (go_iload_n (pc := 97) (Y := YX2_bricks) 3 dX2_bricks_97 rfl rfl) ?_
              refine im (go_istore_n (pc := 98) (Y := YX2_bricks) (ls2 := [(2, iV v16), (0, rV (some this)), (1, iV i1), (3, iV v16)]) dX2_bricks_98 rfl (Nat.le_of_ble_eq_true rfl) rfl) ?_
              refine e2 (fun q0 q1 => ?_)
              subst q0
              subst q1
              exact go_sub [1, 2, 0, 3] rfl hj99
          · refine im (go_goto (pc := 66) (Y := YX2_bricks) 99 dX2_bricks_66 (by decide)) ?_
            refine e2 (fun q0 q1 => ?_)
            subst q0
            subst q1
            exact go_sub [0, 1, 2, 3] rfl hj99
      · refine e2 (fun q0 q1 => ?_)
        subst q0
        subst q1
        exact go_sub [0, 1, 2, 3] rfl hj99
theorem mX2_bricks {G : gG} (s0 : St) {this : Nat} {p0 : Int32} {sE : St} {vE : Int32} (h : sX2_bricks s0 this p0 = some (sE, vE)) : Mt G YX2_bricks yX2_bricks [rV (some this), iV p0] s0 (some (iV vE)) sE := by
  refine go_start (ls0 := [(0, rV (some this)), (1, iV p0)]) (by decide +kernel) rfl (fun h => by cases h) (Nat.le_of_ble_eq_true rfl) rfl ?_
  revert h
  unfold sX2_bricks
  refine im (go_aload_n (pc := 0) (Y := YX2_bricks) 0 dX2_bricks_0 rfl rfl) ?_
  refine kdg (fun k1 => ?_)
  refine bpg (fun s2 he3 => ?_)
  refine im (go_callV (pc := 1) (Y := YX2_bricks) (Yc := YX2_good) (y := yX2_good) (n := 0) (c0 := 2) (q := (RX2, TX2, 37)) this [] [] rfl rfl k1 (mX2_good s0 he3) YOK_X2_good rfl q1760 q133 q1759 qs66 q1757 (Nat.le_of_ble_eq_true rfl) (Nat.le_of_ble_eq_true rfl) (Nat.le_of_ble_eq_true rfl) dX2_bricks_1 (st2 := []) rfl) ?_
  clear he3
  refine im (go_aload_n (pc := 4) (Y := YX2_bricks) 0 dX2_bricks_4 rfl rfl) ?_
  refine im (go_iload_n (pc := 5) (Y := YX2_bricks) 1 dX2_bricks_5 rfl rfl) ?_
  refine kdg (fun k4 => ?_)
  refine bpg (fun v5 he6 => ?_)
  refine im (go_callV (pc := 6) (Y := YX2_bricks) (Yc := YX2_isQuarrel) (y := yX2_isQuarrel) (n := 1) (c0 := 2) (q := (RX2, TX2, 37)) this [iV p0] [] rfl rfl k4 (mX2_isQuarrel s2 he6) YOK_X2_isQuarrel rfl q1965 q133 q1964 qs99 q1962 (Nat.le_of_ble_eq_true rfl) (Nat.le_of_ble_eq_true rfl) (Nat.le_of_ble_eq_true rfl) dX2_bricks_6 (st2 := [iV v5]) rfl) ?_
  clear he6
  refine flp2 (go_if_ne (pc := 9) (Y := YX2_bricks) 18 dX2_bricks_9 (by decide)) ?_ ?_
  · refine im (go_aload_n (pc := 12) (Y := YX2_bricks) 0 dX2_bricks_12 rfl rfl) ?_
    refine im (go_iconst (pc := 13) (Y := YX2_bricks) (v := 1) dX2_bricks_13 rfl) ?_
    refine kdg (fun k7 => ?_)
    refine bdg (fun s8 v9 he10 => ?_)
    refine im (go_callV (pc := 14) (Y := YX2_bricks) (Yc := YX2_no) (y := yX2_no) (n := 1) (c0 := 2) (q := (RX2, TX2, 37)) this [iV 1] [] rfl rfl k7 (mX2_no s2 he10) YOK_X2_no rfl q1767 q133 q1766 qs67 q1764 (Nat.le_of_ble_eq_true rfl) (Nat.le_of_ble_eq_true rfl) (Nat.le_of_ble_eq_true rfl) dX2_bricks_14 (st2 := [iV v9]) rfl) ?_
    clear he10
    refine e2 (fun q0 q1 => ?_)
    subst q0
    subst q1
    exact go_iret (pc := 17) (Y := YX2_bricks) rfl dX2_bricks_17
  · refine im (go_aload_n (pc := 18) (Y := YX2_bricks) 0 dX2_bricks_18 rfl rfl) ?_
    refine kdg (fun k11 => ?_)
    refine bpg (fun s12 he13 => ?_)
    refine im (go_callV (pc := 19) (Y := YX2_bricks) (Yc := YX2_asNow) (y := yX2_asNow) (n := 0) (c0 := 2) (q := (RX2, TX2, 37)) this [] [] rfl rfl k11 (mX2_asNow s2 he13) YOK_X2_asNow rfl q1981 q133 q1980 qs102 q1978 (Nat.le_of_ble_eq_true rfl) (Nat.le_of_ble_eq_true rfl) (Nat.le_of_ble_eq_true rfl) dX2_bricks_19 (st2 := []) rfl) ?_
    clear he13
    refine im (go_bipush (pc := 22) (Y := YX2_bricks) (v := -2) dX2_bricks_22 rfl) ?_
    refine im (go_istore_n (pc := 24) (Y := YX2_bricks) (ls2 := [(2, iV (-2)), (0, rV (some this)), (1, iV p0)]) dX2_bricks_24 rfl (Nat.le_of_ble_eq_true rfl) rfl) ?_
    refine im (go_iconst (pc := 25) (Y := YX2_bricks) (v := 0) dX2_bricks_25 rfl) ?_
    refine im (go_istore_n (pc := 26) (Y := YX2_bricks) (ls2 := [(3, iV 0), (2, iV (-2)), (0, rV (some this)), (1, iV p0)]) dX2_bricks_26 rfl (Nat.le_of_ble_eq_true rfl) rfl) ?_
    refine b2g (fun s47 v48 he49 h50 => ?_)
    refine go_sub [2, 3, 1, 0] rfl (sX2_bricks_L27_go this p0 FU _ _ _ _ _ he49 ?_)
    clear he49
    revert h50
    refine im (go_iload_n (pc := 105) (Y := YX2_bricks) 0 dX2_bricks_105 rfl rfl) ?_
    refine e2 (fun q0 q1 => ?_)
    subst q0
    subst q1
    exact go_iret (pc := 106) (Y := YX2_bricks) rfl dX2_bricks_106
abbrev YX2_canHire : mY := (RX2, cX2_canHire, 2, (Option.some .boolean), 0, 0, false)
theorem YOK_X2_canHire : YOK yX2_canHire 1 := ⟨⟨by decide +kernel, by decide +kernel⟩, by decide +kernel⟩
theorem mX2_canHire {G : gG} (s0 : St) {this : Nat} {p0 : Int32} {vE : Int32} (h : sX2_canHire s0 this p0 = some vE) : Mt G YX2_canHire yX2_canHire [rV (some this), iV p0] s0 (some (iV vE)) s0 := by
  refine go_start (ls0 := [(0, rV (some this)), (1, iV p0)]) (by decide +kernel) rfl (fun h => by cases h) (Nat.le_of_ble_eq_true rfl) rfl ?_
  revert h
  unfold sX2_canHire
  refine im (go_aload_n (pc := 0) (Y := YX2_canHire) 0 dX2_canHire_0 rfl rfl) ?_
  refine flp (go_gR (pc := 1) (Y := YX2_canHire) fF1011 (by decide) q1648 (Or.inl rfl) dX2_canHire_1) (fun v1 => ?_)
  refine im (go_bipush (pc := 4) (Y := YX2_canHire) (v := 26) dX2_canHire_4 rfl) ?_
  refine im (go_iconst (pc := 6) (Y := YX2_canHire) (v := 4) dX2_canHire_6 rfl) ?_
  refine im (go_iload_n (pc := 7) (Y := YX2_canHire) 1 dX2_canHire_7 rfl rfl) ?_
  refine im (go_imul (pc := 8) (Y := YX2_canHire) dX2_canHire_8) ?_
  refine im (go_iadd (pc := 9) (Y := YX2_canHire) dX2_canHire_9) ?_
  refine im (go_iconst (pc := 10) (Y := YX2_canHire) (v := 3) dX2_canHire_10 rfl) ?_
  refine im (go_iadd (pc := 11) (Y := YX2_canHire) dX2_canHire_11) ?_
  refine flp (go_lI1 (pc := 12) (Y := YX2_canHire) dX2_canHire_12) (fun v2 => ?_)
  refine flp2 (go_if_le (pc := 13) (Y := YX2_canHire) 20 dX2_canHire_13 (by decide)) ?_ ?_
  · refine im (go_iconst (pc := 20) (Y := YX2_canHire) (v := 0) dX2_canHire_20 rfl) ?_
    refine e1 (fun q0 => ?_)
    subst q0
    exact go_zret (pc := 21) (Y := YX2_canHire) rfl rfl dX2_canHire_21
  · refine im (go_iconst (pc := 16) (Y := YX2_canHire) (v := 1) dX2_canHire_16 rfl) ?_
    refine im (go_goto (pc := 17) (Y := YX2_canHire) 21 dX2_canHire_17 (by decide)) ?_
    refine e1 (fun q0 => ?_)
    subst q0
    exact go_zret (pc := 21) (Y := YX2_canHire) rfl rfl dX2_canHire_21
abbrev YX2_priceOf : mY := (RX2, cX2_priceOf, 4, (Option.some .int), 1, 21, false)
theorem YOK_X2_priceOf : YOK yX2_priceOf 1 := ⟨⟨by decide +kernel, by decide +kernel⟩, by decide +kernel⟩
theorem sX2_priceOf_L4_go {G : gG} {s0 sE : St} {rE : Option V3} (s1 : St) (this : Nat) (i1 : Int32) : ∀ (n : Nat) (v2 : Int32) (v3 : Int32) (v4 : Int32), sX2_priceOf_L4 s1 this i1 n v2 v3 = some v4 → Go G YX2_priceOf s0 sE rE 50 [(2, iV v4)] [] s1 → Go G YX2_priceOf s0 sE rE 4 [(0, rV (some this)), (1, iV i1), (2, iV v2), (3, iV v3)] [] s1 := by
  intro n
  induction n with
  | zero => intro v2 v3 v4 h hx; rw [sX2_priceOf_L4] at h; cases h
  | succ n ih =>
    intro v2 v3 v4 h hx
    revert h
    rw [sX2_priceOf_L4]
    refine im (go_iload_n (pc := 4) (Y := YX2_priceOf) 3 dX2_priceOf_4 rfl rfl) ?_
    refine im (go_aload_n (pc := 5) (Y := YX2_priceOf) 0 dX2_priceOf_5 rfl rfl) ?_
    refine flp (go_gR (pc := 6) (Y := YX2_priceOf) fF1011 (by decide) q1648 (Or.inl rfl) dX2_priceOf_6) (fun v5 => ?_)
    refine im (go_iconst (pc := 9) (Y := YX2_priceOf) (v := 3) dX2_priceOf_9 rfl) ?_
    refine flp (go_lI1 (pc := 10) (Y := YX2_priceOf) dX2_priceOf_10) (fun v6 => ?_)
    refine flp2 (go_icmp_ge (pc := 11) (Y := YX2_priceOf) 50 dX2_priceOf_11 (by decide)) ?_ ?_
    · refine e1 (fun q0 => ?_)
      subst q0
      exact go_sub [2] rfl hx
    · refine im (go_iload_n (pc := 14) (Y := YX2_priceOf) 2 dX2_priceOf_14 rfl rfl) ?_
      refine im (go_iload_n (pc := 15) (Y := YX2_priceOf) 1 dX2_priceOf_15 rfl rfl) ?_
      refine im (go_iload_n (pc := 16) (Y := YX2_priceOf) 3 dX2_priceOf_16 rfl rfl) ?_
      refine bpg (fun v7 he8 => ?_)
      refine im (go_callS (pc := 17) (Y := YX2_priceOf) (Yc := YX2_hasBit) (y := yX2_hasBit) (n := 2) [iV i1, iV v3] [iV v2] rfl (mX2_hasBit s1 he8) YOK_X2_hasBit rfl q2000 q133 q1999 q1998 (Nat.le_of_ble_eq_true rfl) (Nat.le_of_ble_eq_true rfl) (Nat.le_of_ble_eq_true rfl) dX2_priceOf_17 (st2 := [iV v7, iV v2]) rfl) ?_
      clear he8
      refine bpg (fun v9 he12 h13 => ?_)
      have hj42 : Go G YX2_priceOf s0 sE rE 42 [(0, rV (some this)), (1, iV i1), (3, iV v3)] [iV v9, iV v2] s1 := by
        clear he12
        revert h13
        refine im (go_iadd (pc := 42) (Y := YX2_priceOf) dX2_priceOf_42) ?_
        refine im (go_istore_n (pc := 43) (Y := YX2_priceOf) (ls2 := [(2, iV (v2 + v9)), (0, rV (some this)), (1, iV i1), (3, iV v3)]) dX2_priceOf_43 rfl (Nat.le_of_ble_eq_true rfl) rfl) ?_
        refine im (go_iinc (pc := 44) (Y := YX2_priceOf) 3 (v := (v3 + 1)) (ls2 := [(3, iV (v3 + 1)), (2, iV (v2 + v9)), (0, rV (some this)), (1, iV i1)]) dX2_priceOf_44 rfl rfl (Nat.le_of_ble_eq_true rfl) rfl) ?_
        refine im (go_goto (pc := 47) (Y := YX2_priceOf) 4 dX2_priceOf_47 (by decide)) ?_
        exact fun hq => go_sub [2, 3, 1, 0] rfl (ih _ _ _ hq hx)
      clear h13
      revert he12
      refine flp2 (go_if_eq (pc := 20) (Y := YX2_priceOf) 41 dX2_priceOf_20 (by decide)) ?_ ?_
      · refine im (go_iconst (pc := 41) (Y := YX2_priceOf) (v := 0) dX2_priceOf_41 rfl) ?_
        refine e1 (fun q0 => ?_)
        subst q0
        exact go_sub [0, 1, 3] rfl hj42
      · refine im (go_aload_n (pc := 23) (Y := YX2_priceOf) 0 dX2_priceOf_23 rfl rfl) ?_
        refine flp (go_gR (pc := 24) (Y := YX2_priceOf) fF1011 (by decide) q1648 (Or.inl rfl) dX2_priceOf_24) (fun v10 => ?_)
        refine im (go_bipush (pc := 27) (Y := YX2_priceOf) (v := 26) dX2_priceOf_27 rfl) ?_
        refine im (go_iconst (pc := 29) (Y := YX2_priceOf) (v := 4) dX2_priceOf_29 rfl) ?_
        refine im (go_iload_n (pc := 30) (Y := YX2_priceOf) 3 dX2_priceOf_30 rfl rfl) ?_
        refine im (go_imul (pc := 31) (Y := YX2_priceOf) dX2_priceOf_31) ?_
        refine im (go_iadd (pc := 32) (Y := YX2_priceOf) dX2_priceOf_32) ?_
        refine im (go_iconst (pc := 33) (Y := YX2_priceOf) (v := 3) dX2_priceOf_33 rfl) ?_
        refine im (go_iadd (pc := 34) (Y := YX2_priceOf) dX2_priceOf_34) ?_
        refine flp (go_lI1 (pc := 35) (Y := YX2_priceOf) dX2_priceOf_35) (fun v11 => ?_)
        refine im (go_iconst (pc := 36) (Y := YX2_priceOf) (v := 1) dX2_priceOf_36 rfl) ?_
        refine im (go_isub (pc := 37) (Y := YX2_priceOf) dX2_priceOf_37) ?_
        refine im (go_goto (pc := 38) (Y := YX2_priceOf) 42 dX2_priceOf_38 (by decide)) ?_
        refine e1 (fun q0 => ?_)
        subst q0
        exact go_sub [0, 1, 3] rfl hj42
theorem mX2_priceOf {G : gG} (s0 : St) {this : Nat} {p0 : Int32} {vE : Int32} (h : sX2_priceOf s0 this p0 = some vE) : Mt G YX2_priceOf yX2_priceOf [rV (some this), iV p0] s0 (some (iV vE)) s0 := by
  refine go_start (ls0 := [(0, rV (some this)), (1, iV p0)]) (by decide +kernel) rfl (fun h => by cases h) (Nat.le_of_ble_eq_true rfl) rfl ?_
  revert h
  unfold sX2_priceOf
  refine im (go_iconst (pc := 0) (Y := YX2_priceOf) (v := 0) dX2_priceOf_0 rfl) ?_
  refine im (go_istore_n (pc := 1) (Y := YX2_priceOf) (ls2 := [(2, iV 0), (0, rV (some this)), (1, iV p0)]) dX2_priceOf_1 rfl (Nat.le_of_ble_eq_true rfl) rfl) ?_
  refine im (go_iconst (pc := 2) (Y := YX2_priceOf) (v := 0) dX2_priceOf_2 rfl) ?_
  refine im (go_istore_n (pc := 3) (Y := YX2_priceOf) (ls2 := [(3, iV 0), (2, iV 0), (0, rV (some this)), (1, iV p0)]) dX2_priceOf_3 rfl (Nat.le_of_ble_eq_true rfl) rfl) ?_
  refine bpg (fun v14 he15 h16 => ?_)
  refine go_sub [2, 3, 1, 0] rfl (sX2_priceOf_L4_go s0 this p0 FU _ _ _ he15 ?_)
  clear he15
  revert h16
  refine im (go_iload_n (pc := 50) (Y := YX2_priceOf) 0 dX2_priceOf_50 rfl rfl) ?_
  refine e1 (fun q0 => ?_)
  subst q0
  exact go_iret (pc := 51) (Y := YX2_priceOf) rfl dX2_priceOf_51
abbrev YX2_stoppersOf : mY := (RX2, cX2_stoppersOf, 7, (Option.some .int), 5, 117, false)
theorem YOK_X2_stoppersOf : YOK yX2_stoppersOf 1 := ⟨⟨by decide +kernel, by decide +kernel⟩, by decide +kernel⟩
theorem sX2_stoppersOf_L12_go {G : gG} {s0 sE : St} {rE : Option V3} (s1 : St) (this : Nat) (i1 : Int32) (i2 : Int32) : ∀ (n : Nat) (v2 : Int32) (v3 : Int32) (v4 : Int32), sX2_stoppersOf_L12 s1 this i2 n v2 v3 = some v4 → Go G YX2_stoppersOf s0 sE rE 83 [(0, rV (some this)), (1, iV i1), (2, iV i2), (3, iV v4)] [] s1 → Go G YX2_stoppersOf s0 sE rE 12 [(0, rV (some this)), (1, iV i1), (2, iV i2), (3, iV v2), (4, iV v3)] [] s1 := by
  intro n
  induction n with
  | zero => intro v2 v3 v4 h hx; rw [sX2_stoppersOf_L12] at h; cases h
  | succ n ih =>
    intro v2 v3 v4 h hx
    revert h
    rw [sX2_stoppersOf_L12]
    refine im (go_iload (pc := 12) (Y := YX2_stoppersOf) 4 dX2_stoppersOf_12 rfl) ?_
    refine im (go_aload_n (pc := 14) (Y := YX2_stoppersOf) 0 dX2_stoppersOf_14 rfl rfl) ?_
    refine flp (go_gR (pc := 15) (Y := YX2_stoppersOf) fF1011 (by decide) q1648 (Or.inl rfl) dX2_stoppersOf_15) (fun v5 => ?_)
    refine im (go_iconst (pc := 18) (Y := YX2_stoppersOf) (v := 3) dX2_stoppersOf_18 rfl) ?_
    refine flp (go_lI1 (pc := 19) (Y := YX2_stoppersOf) dX2_stoppersOf_19) (fun v6 => ?_)
    refine flp2 (go_icmp_ge (pc := 20) (Y := YX2_stoppersOf) 83 dX2_stoppersOf_20 (by decide)) ?_ ?_
    · refine e1 (fun q0 => ?_)
      subst q0
      exact go_sub [0, 1, 2, 3] rfl hx
    · refine im (go_iload_n (pc := 23) (Y := YX2_stoppersOf) 3 dX2_stoppersOf_23 rfl rfl) ?_
      refine im (go_aload_n (pc := 24) (Y := YX2_stoppersOf) 0 dX2_stoppersOf_24 rfl rfl) ?_
      refine im (go_iload (pc := 25) (Y := YX2_stoppersOf) 4 dX2_stoppersOf_25 rfl) ?_
      refine kdg (fun k7 => ?_)
      refine bpg (fun v8 he9 => ?_)
      refine im (go_callV (pc := 27) (Y := YX2_stoppersOf) (Yc := YX2_canHire) (y := yX2_canHire) (n := 1) (c0 := 2) (q := (RX2, TX2, 37)) this [iV v3] [iV v2] rfl rfl k7 (mX2_canHire s1 he9) YOK_X2_canHire rfl q2116 q133 q2115 qs115 q2113 (Nat.le_of_ble_eq_true rfl) (Nat.le_of_ble_eq_true rfl) (Nat.le_of_ble_eq_true rfl) dX2_stoppersOf_27 (st2 := [iV v8, iV v2]) rfl) ?_
      clear he9
      refine bpg (fun v10 he17 h18 => ?_)
      have hj75 : Go G YX2_stoppersOf s0 sE rE 75 [(0, rV (some this)), (1, iV i1), (2, iV i2), (4, iV v3)] [iV v10, iV v2] s1 := by
        clear he17
        revert h18
        refine im (go_ior (pc := 75) (Y := YX2_stoppersOf) dX2_stoppersOf_75) ?_
        refine im (go_istore_n (pc := 76) (Y := YX2_stoppersOf) (ls2 := [(3, iV (v2 ||| v10)), (0, rV (some this)), (1, iV i1), (2, iV i2), (4, iV v3)]) dX2_stoppersOf_76 rfl (Nat.le_of_ble_eq_true rfl) rfl) ?_
        refine im (go_iinc (pc := 77) (Y := YX2_stoppersOf) 4 (v := (v3 + 1)) (ls2 := [(4, iV (v3 + 1)), (3, iV (v2 ||| v10)), (0, rV (some this)), (1, iV i1), (2, iV i2)]) dX2_stoppersOf_77 rfl rfl (Nat.le_of_ble_eq_true rfl) rfl) ?_
        refine im (go_goto (pc := 80) (Y := YX2_stoppersOf) 12 dX2_stoppersOf_80 (by decide)) ?_
        exact fun hq => go_sub [2, 3, 4, 1, 0] rfl (ih _ _ _ hq hx)
      clear h18
      revert he17
      refine flp2 (go_if_eq (pc := 30) (Y := YX2_stoppersOf) 74 dX2_stoppersOf_30 (by decide)) ?_ ?_
      · refine im (go_iconst (pc := 74) (Y := YX2_stoppersOf) (v := 0) dX2_stoppersOf_74 rfl) ?_
        refine e1 (fun q0 => ?_)
        subst q0
        exact go_sub [0, 1, 2, 4] rfl hj75
      · refine im (go_aload_n (pc := 33) (Y := YX2_stoppersOf) 0 dX2_stoppersOf_33 rfl rfl) ?_
        refine flp (go_gR (pc := 34) (Y := YX2_stoppersOf) fF1013 (by decide) q1650 (Or.inl rfl) dX2_stoppersOf_34) (fun v11 => ?_)
        refine im (go_iload (pc := 37) (Y := YX2_stoppersOf) 4 dX2_stoppersOf_37 rfl) ?_
        refine flp (go_lI1 (pc := 39) (Y := YX2_stoppersOf) dX2_stoppersOf_39) (fun v12 => ?_)
        refine flp2 (go_if_ne (pc := 40) (Y := YX2_stoppersOf) 74 dX2_stoppersOf_40 (by decide)) ?_ ?_
        · refine im (go_iload (pc := 43) (Y := YX2_stoppersOf) 4 dX2_stoppersOf_43 rfl) ?_
          refine im (go_aload_n (pc := 45) (Y := YX2_stoppersOf) 0 dX2_stoppersOf_45 rfl rfl) ?_
          refine flp (go_gR (pc := 46) (Y := YX2_stoppersOf) fF1011 (by decide) q1648 (Or.inl rfl) dX2_stoppersOf_46) (fun v13 => ?_)
          refine im (go_iload_n (pc := 49) (Y := YX2_stoppersOf) 2 dX2_stoppersOf_49 rfl rfl) ?_
          refine flp (go_lI1 (pc := 50) (Y := YX2_stoppersOf) dX2_stoppersOf_50) (fun v14 => ?_)
          refine flp2 (go_icmp_eq (pc := 51) (Y := YX2_stoppersOf) 74 dX2_stoppersOf_51 (by decide)) ?_ ?_
          · refine im (go_iconst (pc := 74) (Y := YX2_stoppersOf) (v := 0) dX2_stoppersOf_74 rfl) ?_
            refine e1 (fun q0 => ?_)
            subst q0
            exact go_sub [0, 1, 2, 4] rfl hj75
          · refine im (go_iload (pc := 54) (Y := YX2_stoppersOf) 4 dX2_stoppersOf_54 rfl) ?_
            refine im (go_aload_n (pc := 56) (Y := YX2_stoppersOf) 0 dX2_stoppersOf_56 rfl rfl) ?_
            refine flp (go_gR (pc := 57) (Y := YX2_stoppersOf) fF1011 (by decide) q1648 (Or.inl rfl) dX2_stoppersOf_57) (fun v15 => ?_)
            refine im (go_iload_n (pc := 60) (Y := YX2_stoppersOf) 2 dX2_stoppersOf_60 rfl rfl) ?_
            refine im (go_iconst (pc := 61) (Y := YX2_stoppersOf) (v := 1) dX2_stoppersOf_61 rfl) ?_
            refine im (go_iadd (pc := 62) (Y := YX2_stoppersOf) dX2_stoppersOf_62) ?_
            refine flp (go_lI1 (pc := 63) (Y := YX2_stoppersOf) dX2_stoppersOf_63) (fun v16 => ?_)
            refine flp2 (go_icmp_eq (pc := 64) (Y := YX2_stoppersOf) 74 dX2_stoppersOf_64 (by decide)) ?_ ?_
            · refine im (go_iconst (pc := 74) (Y := YX2_stoppersOf) (v := 0) dX2_stoppersOf_74 rfl) ?_
              refine e1 (fun q0 => ?_)
              subst q0
              exact go_sub [0, 1, 2, 4] rfl hj75
            · refine im (go_iconst (pc := 67) (Y := YX2_stoppersOf) (v := 1) dX2_stoppersOf_67 rfl) ?_
              refine im (go_iload (pc := 68) (Y := YX2_stoppersOf) 4 dX2_stoppersOf_68 rfl) ?_
              refine im (go_ishl (pc := 70) (Y := YX2_stoppersOf) dX2_stoppersOf_70) ?_
              refine im (go_goto (pc := 71) (Y := YX2_stoppersOf) 75 dX2_stoppersOf_71 (by decide)) ?_
              refine e1 (fun q0 => ?_)
              subst q0
              exact go_sub [0, 1, 2, 4] rfl hj75
        · refine im (go_iconst (pc := 74) (Y := YX2_stoppersOf) (v := 0) dX2_stoppersOf_74 rfl) ?_
          refine e1 (fun q0 => ?_)
          subst q0
          exact go_sub [0, 1, 2, 4] rfl hj75
theorem sX2_stoppersOf_L142_go {G : gG} {s0 sE : St} {rE : Option V3} (this : Nat) (i1 : Int32) (i2 : Int32) (i3 : Int32) (i4 : Int32) (i5 : Int32) : ∀ (n : Nat) (s32 : St) (v33 : Int32) (s34 : St), sX2_stoppersOf_L142 this i2 i5 n s32 v33 = some s34 → Go G YX2_stoppersOf s0 sE rE 186 [(0, rV (some this)), (1, iV i1), (2, iV i2), (3, iV i3), (4, iV i4), (5, iV i5)] [] s34 → Go G YX2_stoppersOf s0 sE rE 142 [(0, rV (some this)), (1, iV i1), (2, iV i2), (3, iV i3), (4, iV i4), (5, iV i5), (6, iV v33)] [] s32 := by
  intro n
  induction n with
  | zero => intro s32 v33 s34 h hx; rw [sX2_stoppersOf_L142] at h; cases h
  | succ n ih =>
    intro s32 v33 s34 h hx
    revert h
    rw [sX2_stoppersOf_L142]
    refine im (go_iload (pc := 142) (Y := YX2_stoppersOf) 6 dX2_stoppersOf_142 rfl) ?_
    refine im (go_aload_n (pc := 144) (Y := YX2_stoppersOf) 0 dX2_stoppersOf_144 rfl rfl) ?_
    refine flp (go_gR (pc := 145) (Y := YX2_stoppersOf) fF1011 (by decide) q1648 (Or.inl rfl) dX2_stoppersOf_145) (fun v35 => ?_)
    refine im (go_iconst (pc := 148) (Y := YX2_stoppersOf) (v := 3) dX2_stoppersOf_148 rfl) ?_
    refine flp (go_lI1 (pc := 149) (Y := YX2_stoppersOf) dX2_stoppersOf_149) (fun v36 => ?_)
    refine flp2 (go_icmp_ge (pc := 150) (Y := YX2_stoppersOf) 186 dX2_stoppersOf_150 (by decide)) ?_ ?_
    · refine e1 (fun q0 => ?_)
      subst q0
      exact go_sub [0, 1, 2, 3, 4, 5] rfl hx
    · refine im (go_iload (pc := 153) (Y := YX2_stoppersOf) 5 dX2_stoppersOf_153 rfl) ?_
      refine im (go_iload (pc := 155) (Y := YX2_stoppersOf) 6 dX2_stoppersOf_155 rfl) ?_
      refine bpg (fun v37 he38 => ?_)
      refine im (go_callS (pc := 157) (Y := YX2_stoppersOf) (Yc := YX2_hasBit) (y := yX2_hasBit) (n := 2) [iV i5, iV v33] [] rfl (mX2_hasBit s32 he38) YOK_X2_hasBit rfl q2000 q133 q1999 q1998 (Nat.le_of_ble_eq_true rfl) (Nat.le_of_ble_eq_true rfl) (Nat.le_of_ble_eq_true rfl) dX2_stoppersOf_157 (st2 := [iV v37]) rfl) ?_
      clear he38
      refine bpg (fun s39 he44 h45 => ?_)
      have hj180 : Go G YX2_stoppersOf s0 sE rE 180 [(0, rV (some this)), (1, iV i1), (2, iV i2), (3, iV i3), (4, iV i4), (5, iV i5), (6, iV v33)] [] s39 := by
        clear he44
        revert h45
        refine im (go_iinc (pc := 180) (Y := YX2_stoppersOf) 6 (v := (v33 + 1)) (ls2 := [(6, iV (v33 + 1)), (0, rV (some this)), (1, iV i1), (2, iV i2), (3, iV i3), (4, iV i4), (5, iV i5)]) dX2_stoppersOf_180 rfl rfl (Nat.le_of_ble_eq_true rfl) rfl) ?_
        refine im (go_goto (pc := 183) (Y := YX2_stoppersOf) 142 dX2_stoppersOf_183 (by decide)) ?_
        exact fun hq => go_sub [1, 2, 3, 4, 5, 6, 0] rfl (ih _ _ _ hq hx)
      clear h45
      revert he44
      refine flp2 (go_if_eq (pc := 160) (Y := YX2_stoppersOf) 180 dX2_stoppersOf_160 (by decide)) ?_ ?_
      · refine e1 (fun q0 => ?_)
        subst q0
        exact go_sub [0, 1, 2, 3, 4, 5, 6] rfl hj180
      · refine im (go_aload_n (pc := 163) (Y := YX2_stoppersOf) 0 dX2_stoppersOf_163 rfl rfl) ?_
        refine flp (go_gR (pc := 164) (Y := YX2_stoppersOf) fF1016 (by decide) q1655 (Or.inl rfl) dX2_stoppersOf_164) (fun v40 => ?_)
        refine im (go_iload (pc := 167) (Y := YX2_stoppersOf) 6 dX2_stoppersOf_167 rfl) ?_
        refine im (go_aload_n (pc := 169) (Y := YX2_stoppersOf) 0 dX2_stoppersOf_169 rfl rfl) ?_
        refine flp (go_gR (pc := 170) (Y := YX2_stoppersOf) fF1011 (by decide) q1648 (Or.inl rfl) dX2_stoppersOf_170) (fun v41 => ?_)
        refine im (go_iload_n (pc := 173) (Y := YX2_stoppersOf) 2 dX2_stoppersOf_173 rfl rfl) ?_
        refine im (go_iconst (pc := 174) (Y := YX2_stoppersOf) (v := 2) dX2_stoppersOf_174 rfl) ?_
        refine im (go_iadd (pc := 175) (Y := YX2_stoppersOf) dX2_stoppersOf_175) ?_
        refine flp (go_lI1 (pc := 176) (Y := YX2_stoppersOf) dX2_stoppersOf_176) (fun v42 => ?_)
        refine im (go_iconst (pc := 177) (Y := YX2_stoppersOf) (v := 1) dX2_stoppersOf_177 rfl) ?_
        refine im (go_iadd (pc := 178) (Y := YX2_stoppersOf) dX2_stoppersOf_178) ?_
        refine flp (go_tI (pc := 179) (Y := YX2_stoppersOf) dX2_stoppersOf_179) (fun s43 => ?_)
        refine e1 (fun q0 => ?_)
        subst q0
        exact go_sub [0, 1, 2, 3, 4, 5, 6] rfl hj180
theorem sX2_stoppersOf_L90_go {G : gG} {s0 sE : St} {rE : Option V3} (this : Nat) (i1 : Int32) (i2 : Int32) (i3 : Int32) : ∀ (n : Nat) (s20 : St) (v21 : Int32) (v22 : Int32) (s23 : St) (v24 : Int32), sX2_stoppersOf_L90 this i1 i2 i3 n s20 v21 v22 = some (s23, v24) → Go G YX2_stoppersOf s0 sE rE 208 [(4, iV v24)] [] s23 → Go G YX2_stoppersOf s0 sE rE 90 [(0, rV (some this)), (1, iV i1), (2, iV i2), (3, iV i3), (4, iV v21), (5, iV v22)] [] s20 := by
  intro n
  induction n with
  | zero => intro s20 v21 v22 s23 v24 h hx; rw [sX2_stoppersOf_L90] at h; cases h
  | succ n ih =>
    intro s20 v21 v22 s23 v24 h hx
    revert h
    rw [sX2_stoppersOf_L90]
    refine im (go_iload (pc := 90) (Y := YX2_stoppersOf) 5 dX2_stoppersOf_90 rfl) ?_
    refine im (go_iconst (pc := 92) (Y := YX2_stoppersOf) (v := 1) dX2_stoppersOf_92 rfl) ?_
    refine im (go_aload_n (pc := 93) (Y := YX2_stoppersOf) 0 dX2_stoppersOf_93 rfl rfl) ?_
    refine flp (go_gR (pc := 94) (Y := YX2_stoppersOf) fF1011 (by decide) q1648 (Or.inl rfl) dX2_stoppersOf_94) (fun v25 => ?_)
    refine im (go_iconst (pc := 97) (Y := YX2_stoppersOf) (v := 3) dX2_stoppersOf_97 rfl) ?_
    refine flp (go_lI1 (pc := 98) (Y := YX2_stoppersOf) dX2_stoppersOf_98) (fun v26 => ?_)
    refine im (go_ishl (pc := 99) (Y := YX2_stoppersOf) dX2_stoppersOf_99) ?_
    refine flp2 (go_icmp_ge (pc := 100) (Y := YX2_stoppersOf) 208 dX2_stoppersOf_100 (by decide)) ?_ ?_
    · refine e2 (fun q0 q1 => ?_)
      subst q0
      subst q1
      exact go_sub [4] rfl hx
    · refine im (go_iload (pc := 103) (Y := YX2_stoppersOf) 5 dX2_stoppersOf_103 rfl) ?_
      refine im (go_iload_n (pc := 105) (Y := YX2_stoppersOf) 3 dX2_stoppersOf_105 rfl rfl) ?_
      refine im (go_iconst (pc := 106) (Y := YX2_stoppersOf) (v := -1) dX2_stoppersOf_106 rfl) ?_
      refine im (go_ixor (pc := 107) (Y := YX2_stoppersOf) dX2_stoppersOf_107) ?_
      refine im (go_iand (pc := 108) (Y := YX2_stoppersOf) dX2_stoppersOf_108) ?_
      refine b2g (fun s27 v28 he69 h70 => ?_)
      have hj202 : Go G YX2_stoppersOf s0 sE rE 202 [(0, rV (some this)), (1, iV i1), (2, iV i2), (3, iV i3), (4, iV v28), (5, iV v22)] [] s27 := by
        clear he69
        revert h70
        refine im (go_iinc (pc := 202) (Y := YX2_stoppersOf) 5 (v := (v22 + 1)) (ls2 := [(5, iV (v22 + 1)), (0, rV (some this)), (1, iV i1), (2, iV i2), (3, iV i3), (4, iV v28)]) dX2_stoppersOf_202 rfl rfl (Nat.le_of_ble_eq_true rfl) rfl) ?_
        refine im (go_goto (pc := 205) (Y := YX2_stoppersOf) 90 dX2_stoppersOf_205 (by decide)) ?_
        exact fun hq => go_sub [1, 2, 3, 4, 5, 0] rfl (ih _ _ _ _ _ hq hx)
      clear h70
      revert he69
      refine flp2 (go_if_ne (pc := 109) (Y := YX2_stoppersOf) 202 dX2_stoppersOf_109 (by decide)) ?_ ?_
      · refine im (go_iload (pc := 112) (Y := YX2_stoppersOf) 4 dX2_stoppersOf_112 rfl) ?_
        refine flp2 (go_if_lt (pc := 114) (Y := YX2_stoppersOf) 135 dX2_stoppersOf_114 (by decide)) ?_ ?_
        · refine im (go_aload_n (pc := 135) (Y := YX2_stoppersOf) 0 dX2_stoppersOf_135 rfl rfl) ?_
          refine kdg (fun k29 => ?_)
          refine bpg (fun s30 he31 => ?_)
          refine im (go_callV (pc := 136) (Y := YX2_stoppersOf) (Yc := YX2_asNow) (y := yX2_asNow) (n := 0) (c0 := 2) (q := (RX2, TX2, 37)) this [] [] rfl rfl k29 (mX2_asNow s20 he31) YOK_X2_asNow rfl q1981 q133 q1980 qs102 q1978 (Nat.le_of_ble_eq_true rfl) (Nat.le_of_ble_eq_true rfl) (Nat.le_of_ble_eq_true rfl) dX2_stoppersOf_136 (st2 := []) rfl) ?_
          clear he31
          refine im (go_iconst (pc := 139) (Y := YX2_stoppersOf) (v := 0) dX2_stoppersOf_139 rfl) ?_
          refine im (go_istore (pc := 140) (Y := YX2_stoppersOf) (ls2 := [(6, iV 0), (0, rV (some this)), (1, iV i1), (2, iV i2), (3, iV i3), (4, iV v21), (5, iV v22)]) dX2_stoppersOf_140 (Nat.le_of_ble_eq_true rfl) rfl) ?_
          refine bpg (fun s46 he51 h52 => ?_)
          refine go_sub [1, 2, 3, 4, 5, 6, 0] rfl (sX2_stoppersOf_L142_go this i1 i2 i3 v21 v22 FU _ _ _ he51 ?_)
          clear he51
          revert h52
          refine im (go_aload_n (pc := 186) (Y := YX2_stoppersOf) 0 dX2_stoppersOf_186 rfl rfl) ?_
          refine im (go_iload_n (pc := 187) (Y := YX2_stoppersOf) 1 dX2_stoppersOf_187 rfl rfl) ?_
          refine kdg (fun k47 => ?_)
          refine bpg (fun s48 he49 => ?_)
          refine im (go_callV (pc := 188) (Y := YX2_stoppersOf) (Yc := YX2_runTold) (y := yX2_runTold) (n := 1) (c0 := 2) (q := (RX2, TX2, 37)) this [iV i1] [] rfl rfl k47 (mX2_runTold s46 he49) YOK_X2_runTold rfl q2040 q133 q2039 qs110 q2037 (Nat.le_of_ble_eq_true rfl) (Nat.le_of_ble_eq_true rfl) (Nat.le_of_ble_eq_true rfl) dX2_stoppersOf_188 (st2 := []) rfl) ?_
          clear he49
          refine im (go_aload_n (pc := 191) (Y := YX2_stoppersOf) 0 dX2_stoppersOf_191 rfl rfl) ?_
          refine flp (go_gI (pc := 192) (Y := YX2_stoppersOf) fF34 (by decide) q1658 (Or.inl rfl) dX2_stoppersOf_192) (fun v50 => ?_)
          refine flp2 (go_if_ne (pc := 195) (Y := YX2_stoppersOf) 202 dX2_stoppersOf_195 (by decide)) ?_ ?_
          · refine im (go_iload (pc := 198) (Y := YX2_stoppersOf) 5 dX2_stoppersOf_198 rfl) ?_
            refine im (go_istore (pc := 200) (Y := YX2_stoppersOf) (ls2 := [(4, iV v22), (0, rV (some this)), (1, iV i1), (2, iV i2), (3, iV i3), (5, iV v22)]) dX2_stoppersOf_200 (Nat.le_of_ble_eq_true rfl) rfl) ?_
            refine e2 (fun q0 q1 => ?_)
            subst q0
            subst q1
            exact go_sub [1, 2, 3, 4, 0, 5] rfl hj202
          · refine e2 (fun q0 q1 => ?_)
            subst q0
            subst q1
            exact go_sub [0, 1, 2, 3, 4, 5] rfl hj202
        · refine im (go_aload_n (pc := 117) (Y := YX2_stoppersOf) 0 dX2_stoppersOf_117 rfl rfl) ?_
          refine im (go_iload (pc := 118) (Y := YX2_stoppersOf) 5 dX2_stoppersOf_118 rfl) ?_
          refine kdg (fun k53 => ?_)
          refine bpg (fun v54 he55 => ?_)
          refine im (go_callV (pc := 120) (Y := YX2_stoppersOf) (Yc := YX2_priceOf) (y := yX2_priceOf) (n := 1) (c0 := 2) (q := (RX2, TX2, 37)) this [iV v22] [] rfl rfl k53 (mX2_priceOf s20 he55) YOK_X2_priceOf rfl q2120 q133 q2119 qs116 q2117 (Nat.le_of_ble_eq_true rfl) (Nat.le_of_ble_eq_true rfl) (Nat.le_of_ble_eq_true rfl) dX2_stoppersOf_120 (st2 := [iV v54]) rfl) ?_
          clear he55
          refine im (go_aload_n (pc := 123) (Y := YX2_stoppersOf) 0 dX2_stoppersOf_123 rfl rfl) ?_
          refine im (go_iload (pc := 124) (Y := YX2_stoppersOf) 4 dX2_stoppersOf_124 rfl) ?_
          refine kdg (fun k56 => ?_)
          refine bpg (fun v57 he58 => ?_)
          refine im (go_callV (pc := 126) (Y := YX2_stoppersOf) (Yc := YX2_priceOf) (y := yX2_priceOf) (n := 1) (c0 := 2) (q := (RX2, TX2, 37)) this [iV v21] [iV v54] rfl rfl k56 (mX2_priceOf s20 he58) YOK_X2_priceOf rfl q2120 q133 q2119 qs116 q2117 (Nat.le_of_ble_eq_true rfl) (Nat.le_of_ble_eq_true rfl) (Nat.le_of_ble_eq_true rfl) dX2_stoppersOf_126 (st2 := [iV v57, iV v54]) rfl) ?_
          clear he58
          refine flp2 (go_icmp_lt (pc := 129) (Y := YX2_stoppersOf) 135 dX2_stoppersOf_129 (by decide)) ?_ ?_
          · refine im (go_aload_n (pc := 135) (Y := YX2_stoppersOf) 0 dX2_stoppersOf_135 rfl rfl) ?_
            refine kdg (fun k59 => ?_)
            refine bpg (fun s60 he61 => ?_)
            refine im (go_callV (pc := 136) (Y := YX2_stoppersOf) (Yc := YX2_asNow) (y := yX2_asNow) (n := 0) (c0 := 2) (q := (RX2, TX2, 37)) this [] [] rfl rfl k59 (mX2_asNow s20 he61) YOK_X2_asNow rfl q1981 q133 q1980 qs102 q1978 (Nat.le_of_ble_eq_true rfl) (Nat.le_of_ble_eq_true rfl) (Nat.le_of_ble_eq_true rfl) dX2_stoppersOf_136 (st2 := []) rfl) ?_
            clear he61
            refine im (go_iconst (pc := 139) (Y := YX2_stoppersOf) (v := 0) dX2_stoppersOf_139 rfl) ?_
            refine im (go_istore (pc := 140) (Y := YX2_stoppersOf) (ls2 := [(6, iV 0), (0, rV (some this)), (1, iV i1), (2, iV i2), (3, iV i3), (4, iV v21), (5, iV v22)]) dX2_stoppersOf_140 (Nat.le_of_ble_eq_true rfl) rfl) ?_
            refine bpg (fun s62 he67 h68 => ?_)
            refine go_sub [1, 2, 3, 4, 5, 6, 0] rfl (sX2_stoppersOf_L142_go this i1 i2 i3 v21 v22 FU _ _ _ he67 ?_)
            clear he67
            revert h68
            refine im (go_aload_n (pc := 186) (Y := YX2_stoppersOf) 0 dX2_stoppersOf_186 rfl rfl) ?_
            refine im (go_iload_n (pc := 187) (Y := YX2_stoppersOf) 1 dX2_stoppersOf_187 rfl rfl) ?_
            refine kdg (fun k63 => ?_)
            refine bpg (fun s64 he65 => ?_)
            refine im (go_callV (pc := 188) (Y := YX2_stoppersOf) (Yc := YX2_runTold) (y := yX2_runTold) (n := 1) (c0 := 2) (q := (RX2, TX2, 37)) this [iV i1] [] rfl rfl k63 (mX2_runTold s62 he65) YOK_X2_runTold rfl q2040 q133 q2039 qs110 q2037 (Nat.le_of_ble_eq_true rfl) (Nat.le_of_ble_eq_true rfl) (Nat.le_of_ble_eq_true rfl) dX2_stoppersOf_188 (st2 := []) rfl) ?_
            clear he65
            refine im (go_aload_n (pc := 191) (Y := YX2_stoppersOf) 0 dX2_stoppersOf_191 rfl rfl) ?_
            refine flp (go_gI (pc := 192) (Y := YX2_stoppersOf) fF34 (by decide) q1658 (Or.inl rfl) dX2_stoppersOf_192) (fun v66 => ?_)
            refine flp2 (go_if_ne (pc := 195) (Y := YX2_stoppersOf) 202 dX2_stoppersOf_195 (by decide)) ?_ ?_
            · refine im (go_iload (pc := 198) (Y := YX2_stoppersOf) 5 dX2_stoppersOf_198 rfl) ?_
              refine im (go_istore (pc := 200) (Y := YX2_stoppersOf) (ls2 := [(4, iV v22), (0, rV (some this)), (1, iV i1), (2, iV i2), (3, iV i3), (5, iV v22)]) dX2_stoppersOf_200 (Nat.le_of_ble_eq_true rfl) rfl) ?_
              refine e2 (fun q0 q1 => ?_)
              subst q0
              subst q1
              exact go_sub [1, 2, 3, 4, 0, 5] rfl hj202
            · refine e2 (fun q0 q1 => ?_)
              subst q0
              subst q1
              exact go_sub [0, 1, 2, 3, 4, 5] rfl hj202
          · refine im (go_goto (pc := 132) (Y := YX2_stoppersOf) 202 dX2_stoppersOf_132 (by decide)) ?_
            refine e2 (fun q0 q1 => ?_)
            subst q0
            subst q1
            exact go_sub [0, 1, 2, 3, 4, 5] rfl hj202
      · refine e2 (fun q0 q1 => ?_)
        subst q0
        subst q1
        exact go_sub [0, 1, 2, 3, 4, 5] rfl hj202
theorem mX2_stoppersOf {G : gG} (s0 : St) {this : Nat} {p0 : Int32} {sE : St} {vE : Int32} (h : sX2_stoppersOf s0 this p0 = some (sE, vE)) : Mt G YX2_stoppersOf yX2_stoppersOf [rV (some this), iV p0] s0 (some (iV vE)) sE := by
  refine go_start (ls0 := [(0, rV (some this)), (1, iV p0)]) (by decide +kernel) rfl (fun h => by cases h) (Nat.le_of_ble_eq_true rfl) rfl ?_
  revert h
  unfold sX2_stoppersOf
  refine im (go_bipush (pc := 0) (Y := YX2_stoppersOf) (v := 80) dX2_stoppersOf_0 rfl) ?_
  refine im (go_iconst (pc := 2) (Y := YX2_stoppersOf) (v := 5) dX2_stoppersOf_2 rfl) ?_
  refine im (go_iload_n (pc := 3) (Y := YX2_stoppersOf) 1 dX2_stoppersOf_3 rfl rfl) ?_
  refine im (go_imul (pc := 4) (Y := YX2_stoppersOf) dX2_stoppersOf_4) ?_
  refine im (go_iadd (pc := 5) (Y := YX2_stoppersOf) dX2_stoppersOf_5) ?_
  refine im (go_istore_n (pc := 6) (Y := YX2_stoppersOf) (ls2 := [(2, iV (80 + (5 * p0))), (0, rV (some this)), (1, iV p0)]) dX2_stoppersOf_6 rfl (Nat.le_of_ble_eq_true rfl) rfl) ?_
  refine im (go_iconst (pc := 7) (Y := YX2_stoppersOf) (v := 0) dX2_stoppersOf_7 rfl) ?_
  refine im (go_istore_n (pc := 8) (Y := YX2_stoppersOf) (ls2 := [(3, iV 0), (2, iV (80 + (5 * p0))), (0, rV (some this)), (1, iV p0)]) dX2_stoppersOf_8 rfl (Nat.le_of_ble_eq_true rfl) rfl) ?_
  refine im (go_iconst (pc := 9) (Y := YX2_stoppersOf) (v := 0) dX2_stoppersOf_9 rfl) ?_
  refine im (go_istore (pc := 10) (Y := YX2_stoppersOf) (ls2 := [(4, iV 0), (3, iV 0), (2, iV (80 + (5 * p0))), (0, rV (some this)), (1, iV p0)]) dX2_stoppersOf_10 (Nat.le_of_ble_eq_true rfl) rfl) ?_
  refine bpg (fun v19 he75 h76 => ?_)
  refine go_sub [3, 4, 2, 1, 0] rfl (sX2_stoppersOf_L12_go s0 this p0 (80 + (5 * p0)) FU _ _ _ he75 ?_)
  clear he75
  revert h76
  refine im (go_bipush (pc := 83) (Y := YX2_stoppersOf) (v := -2) dX2_stoppersOf_83 rfl) ?_
  refine im (go_istore (pc := 85) (Y := YX2_stoppersOf) (ls2 := [(4, iV (-2)), (0, rV (some this)), (1, iV p0), (2, iV (80 + (5 * p0))), (3, iV v19)]) dX2_stoppersOf_85 (Nat.le_of_ble_eq_true rfl) rfl) ?_
  refine im (go_iconst (pc := 87) (Y := YX2_stoppersOf) (v := 0) dX2_stoppersOf_87 rfl) ?_
  refine im (go_istore (pc := 88) (Y := YX2_stoppersOf) (ls2 := [(5, iV 0), (4, iV (-2)), (0, rV (some this)), (1, iV p0), (2, iV (80 + (5 * p0))), (3, iV v19)]) dX2_stoppersOf_88 (Nat.le_of_ble_eq_true rfl) rfl) ?_
  refine b2g (fun s71 v72 he73 h74 => ?_)
  refine go_sub [2, 3, 4, 5, 1, 0] rfl (sX2_stoppersOf_L90_go this p0 (80 + (5 * p0)) v19 FU _ _ _ _ _ he73 ?_)
  clear he73
  revert h74
  refine im (go_iload (pc := 208) (Y := YX2_stoppersOf) 0 dX2_stoppersOf_208 rfl) ?_
  refine e2 (fun q0 q1 => ?_)
  subst q0
  subst q1
  exact go_iret (pc := 210) (Y := YX2_stoppersOf) rfl dX2_stoppersOf_210
abbrev YX2_stoppers : mY := (RX2, cX2_stoppers, 2, (Option.some .int), 6, 143, false)
theorem YOK_X2_stoppers : YOK yX2_stoppers 1 := ⟨⟨by decide +kernel, by decide +kernel⟩, by decide +kernel⟩
theorem mX2_stoppers {G : gG} (s0 : St) {this : Nat} {p0 : Int32} {sE : St} {vE : Int32} (h : sX2_stoppers s0 this p0 = some (sE, vE)) : Mt G YX2_stoppers yX2_stoppers [rV (some this), iV p0] s0 (some (iV vE)) sE := by
  refine go_start (ls0 := [(0, rV (some this)), (1, iV p0)]) (by decide +kernel) rfl (fun h => by cases h) (Nat.le_of_ble_eq_true rfl) rfl ?_
  revert h
  unfold sX2_stoppers
  refine im (go_aload_n (pc := 0) (Y := YX2_stoppers) 0 dX2_stoppers_0 rfl rfl) ?_
  refine kdg (fun k1 => ?_)
  refine bpg (fun s2 he3 => ?_)
  refine im (go_callV (pc := 1) (Y := YX2_stoppers) (Yc := YX2_good) (y := yX2_good) (n := 0) (c0 := 2) (q := (RX2, TX2, 37)) this [] [] rfl rfl k1 (mX2_good s0 he3) YOK_X2_good rfl q1760 q133 q1759 qs66 q1757 (Nat.le_of_ble_eq_true rfl) (Nat.le_of_ble_eq_true rfl) (Nat.le_of_ble_eq_true rfl) dX2_stoppers_1 (st2 := []) rfl) ?_
  clear he3
  refine im (go_aload_n (pc := 4) (Y := YX2_stoppers) 0 dX2_stoppers_4 rfl rfl) ?_
  refine im (go_iload_n (pc := 5) (Y := YX2_stoppers) 1 dX2_stoppers_5 rfl rfl) ?_
  refine kdg (fun k4 => ?_)
  refine bpg (fun v5 he6 => ?_)
  refine im (go_callV (pc := 6) (Y := YX2_stoppers) (Yc := YX2_isQuarrel) (y := yX2_isQuarrel) (n := 1) (c0 := 2) (q := (RX2, TX2, 37)) this [iV p0] [] rfl rfl k4 (mX2_isQuarrel s2 he6) YOK_X2_isQuarrel rfl q1965 q133 q1964 qs99 q1962 (Nat.le_of_ble_eq_true rfl) (Nat.le_of_ble_eq_true rfl) (Nat.le_of_ble_eq_true rfl) dX2_stoppers_6 (st2 := [iV v5]) rfl) ?_
  clear he6
  refine flp2 (go_if_eq (pc := 9) (Y := YX2_stoppers) 20 dX2_stoppers_9 (by decide)) ?_ ?_
  · refine im (go_aload_n (pc := 20) (Y := YX2_stoppers) 0 dX2_stoppers_20 rfl rfl) ?_
    refine im (go_iconst (pc := 21) (Y := YX2_stoppers) (v := 1) dX2_stoppers_21 rfl) ?_
    refine kdg (fun k7 => ?_)
    refine bdg (fun s8 v9 he10 => ?_)
    refine im (go_callV (pc := 22) (Y := YX2_stoppers) (Yc := YX2_no) (y := yX2_no) (n := 1) (c0 := 2) (q := (RX2, TX2, 37)) this [iV 1] [] rfl rfl k7 (mX2_no s2 he10) YOK_X2_no rfl q1767 q133 q1766 qs67 q1764 (Nat.le_of_ble_eq_true rfl) (Nat.le_of_ble_eq_true rfl) (Nat.le_of_ble_eq_true rfl) dX2_stoppers_22 (st2 := [iV v9]) rfl) ?_
    clear he10
    refine e2 (fun q0 q1 => ?_)
    subst q0
    subst q1
    exact go_iret (pc := 25) (Y := YX2_stoppers) rfl dX2_stoppers_25
  · refine im (go_aload_n (pc := 12) (Y := YX2_stoppers) 0 dX2_stoppers_12 rfl rfl) ?_
    refine im (go_iload_n (pc := 13) (Y := YX2_stoppers) 1 dX2_stoppers_13 rfl rfl) ?_
    refine kdg (fun k11 => ?_)
    refine bdg (fun s12 v13 he14 => ?_)
    refine im (go_callV (pc := 14) (Y := YX2_stoppers) (Yc := YX2_stoppersOf) (y := yX2_stoppersOf) (n := 1) (c0 := 2) (q := (RX2, TX2, 37)) this [iV p0] [] rfl rfl k11 (mX2_stoppersOf s2 he14) YOK_X2_stoppersOf rfl q2112 q133 q2111 qs114 q2109 (Nat.le_of_ble_eq_true rfl) (Nat.le_of_ble_eq_true rfl) (Nat.le_of_ble_eq_true rfl) dX2_stoppers_14 (st2 := [iV v13]) rfl) ?_
    clear he14
    refine im (go_goto (pc := 17) (Y := YX2_stoppers) 25 dX2_stoppers_17 (by decide)) ?_
    refine e2 (fun q0 q1 => ?_)
    subst q0
    subst q1
    exact go_iret (pc := 25) (Y := YX2_stoppers) rfl dX2_stoppers_25
abbrev YX2_price : mY := (RX2, cX2_price, 3, (Option.some .int), 6, 143, false)
theorem YOK_X2_price : YOK yX2_price 1 := ⟨⟨by decide +kernel, by decide +kernel⟩, by decide +kernel⟩
theorem mX2_price {G : gG} (s0 : St) {this : Nat} {p0 : Int32} {sE : St} {vE : Int32} (h : sX2_price s0 this p0 = some (sE, vE)) : Mt G YX2_price yX2_price [rV (some this), iV p0] s0 (some (iV vE)) sE := by
  refine go_start (ls0 := [(0, rV (some this)), (1, iV p0)]) (by decide +kernel) rfl (fun h => by cases h) (Nat.le_of_ble_eq_true rfl) rfl ?_
  revert h
  unfold sX2_price
  refine im (go_aload_n (pc := 0) (Y := YX2_price) 0 dX2_price_0 rfl rfl) ?_
  refine kdg (fun k1 => ?_)
  refine bpg (fun s2 he3 => ?_)
  refine im (go_callV (pc := 1) (Y := YX2_price) (Yc := YX2_good) (y := yX2_good) (n := 0) (c0 := 2) (q := (RX2, TX2, 37)) this [] [] rfl rfl k1 (mX2_good s0 he3) YOK_X2_good rfl q1760 q133 q1759 qs66 q1757 (Nat.le_of_ble_eq_true rfl) (Nat.le_of_ble_eq_true rfl) (Nat.le_of_ble_eq_true rfl) dX2_price_1 (st2 := []) rfl) ?_
  clear he3
  refine im (go_aload_n (pc := 4) (Y := YX2_price) 0 dX2_price_4 rfl rfl) ?_
  refine im (go_iload_n (pc := 5) (Y := YX2_price) 1 dX2_price_5 rfl rfl) ?_
  refine kdg (fun k4 => ?_)
  refine bpg (fun v5 he6 => ?_)
  refine im (go_callV (pc := 6) (Y := YX2_price) (Yc := YX2_isQuarrel) (y := yX2_isQuarrel) (n := 1) (c0 := 2) (q := (RX2, TX2, 37)) this [iV p0] [] rfl rfl k4 (mX2_isQuarrel s2 he6) YOK_X2_isQuarrel rfl q1965 q133 q1964 qs99 q1962 (Nat.le_of_ble_eq_true rfl) (Nat.le_of_ble_eq_true rfl) (Nat.le_of_ble_eq_true rfl) dX2_price_6 (st2 := [iV v5]) rfl) ?_
  clear he6
  refine flp2 (go_if_ne (pc := 9) (Y := YX2_price) 18 dX2_price_9 (by decide)) ?_ ?_
  · refine im (go_aload_n (pc := 12) (Y := YX2_price) 0 dX2_price_12 rfl rfl) ?_
    refine im (go_iconst (pc := 13) (Y := YX2_price) (v := 1) dX2_price_13 rfl) ?_
    refine kdg (fun k7 => ?_)
    refine bdg (fun s8 v9 he10 => ?_)
    refine im (go_callV (pc := 14) (Y := YX2_price) (Yc := YX2_no) (y := yX2_no) (n := 1) (c0 := 2) (q := (RX2, TX2, 37)) this [iV 1] [] rfl rfl k7 (mX2_no s2 he10) YOK_X2_no rfl q1767 q133 q1766 qs67 q1764 (Nat.le_of_ble_eq_true rfl) (Nat.le_of_ble_eq_true rfl) (Nat.le_of_ble_eq_true rfl) dX2_price_14 (st2 := [iV v9]) rfl) ?_
    clear he10
    refine e2 (fun q0 q1 => ?_)
    subst q0
    subst q1
    exact go_iret (pc := 17) (Y := YX2_price) rfl dX2_price_17
  · refine im (go_aload_n (pc := 18) (Y := YX2_price) 0 dX2_price_18 rfl rfl) ?_
    refine im (go_iload_n (pc := 19) (Y := YX2_price) 1 dX2_price_19 rfl rfl) ?_
    refine kdg (fun k11 => ?_)
    refine bdg (fun s12 v13 he14 => ?_)
    refine im (go_callV (pc := 20) (Y := YX2_price) (Yc := YX2_stoppersOf) (y := yX2_stoppersOf) (n := 1) (c0 := 2) (q := (RX2, TX2, 37)) this [iV p0] [] rfl rfl k11 (mX2_stoppersOf s2 he14) YOK_X2_stoppersOf rfl q2112 q133 q2111 qs114 q2109 (Nat.le_of_ble_eq_true rfl) (Nat.le_of_ble_eq_true rfl) (Nat.le_of_ble_eq_true rfl) dX2_price_20 (st2 := [iV v13]) rfl) ?_
    clear he14
    refine im (go_istore_n (pc := 23) (Y := YX2_price) (ls2 := [(2, iV v13), (0, rV (some this)), (1, iV p0)]) dX2_price_23 rfl (Nat.le_of_ble_eq_true rfl) rfl) ?_
    refine im (go_iload_n (pc := 24) (Y := YX2_price) 0 dX2_price_24 rfl rfl) ?_
    refine flp2 (go_if_ge (pc := 25) (Y := YX2_price) 33 dX2_price_25 (by decide)) ?_ ?_
    · refine im (go_aload_n (pc := 33) (Y := YX2_price) 1 dX2_price_33 rfl rfl) ?_
      refine im (go_iload_n (pc := 34) (Y := YX2_price) 0 dX2_price_34 rfl rfl) ?_
      refine kdg (fun k15 => ?_)
      refine bpg (fun v16 he17 => ?_)
      refine im (go_callV (pc := 35) (Y := YX2_price) (Yc := YX2_priceOf) (y := yX2_priceOf) (n := 1) (c0 := 2) (q := (RX2, TX2, 37)) this [iV v13] [] rfl rfl k15 (mX2_priceOf s12 he17) YOK_X2_priceOf rfl q2120 q133 q2119 qs116 q2117 (Nat.le_of_ble_eq_true rfl) (Nat.le_of_ble_eq_true rfl) (Nat.le_of_ble_eq_true rfl) dX2_price_35 (st2 := [iV v16]) rfl) ?_
      clear he17
      refine e2 (fun q0 q1 => ?_)
      subst q0
      subst q1
      exact go_iret (pc := 38) (Y := YX2_price) rfl dX2_price_38
    · refine im (go_bipush (pc := 28) (Y := YX2_price) (v := -2) dX2_price_28 rfl) ?_
      refine im (go_goto (pc := 30) (Y := YX2_price) 38 dX2_price_30 (by decide)) ?_
      refine e2 (fun q0 q1 => ?_)
      subst q0
      subst q1
      exact go_iret (pc := 38) (Y := YX2_price) rfl dX2_price_38
abbrev YX2_stoppedWith : mY := (RX2, cX2_stoppedWith, 3, (Option.some .int), 6, 139, false)
theorem YOK_X2_stoppedWith : YOK yX2_stoppedWith 2 := ⟨⟨by decide +kernel, by decide +kernel⟩, by decide +kernel⟩
theorem mX2_stoppedWith {G : gG} (s0 : St) {this : Nat} {p0 : Int32} {p1 : Int32} {sE : St} {vE : Int32} (h : sX2_stoppedWith s0 this p0 p1 = some (sE, vE)) : Mt G YX2_stoppedWith yX2_stoppedWith [rV (some this), iV p0, iV p1] s0 (some (iV vE)) sE := by
  refine go_start (ls0 := [(0, rV (some this)), (1, iV p0), (2, iV p1)]) (by decide +kernel) rfl (fun h => by cases h) (Nat.le_of_ble_eq_true rfl) rfl ?_
  revert h
  unfold sX2_stoppedWith
  refine im (go_aload_n (pc := 0) (Y := YX2_stoppedWith) 0 dX2_stoppedWith_0 rfl rfl) ?_
  refine kdg (fun k1 => ?_)
  refine bpg (fun s2 he3 => ?_)
  refine im (go_callV (pc := 1) (Y := YX2_stoppedWith) (Yc := YX2_asNow) (y := yX2_asNow) (n := 0) (c0 := 2) (q := (RX2, TX2, 37)) this [] [] rfl rfl k1 (mX2_asNow s0 he3) YOK_X2_asNow rfl q1981 q133 q1980 qs102 q1978 (Nat.le_of_ble_eq_true rfl) (Nat.le_of_ble_eq_true rfl) (Nat.le_of_ble_eq_true rfl) dX2_stoppedWith_1 (st2 := []) rfl) ?_
  clear he3
  refine im (go_aload_n (pc := 4) (Y := YX2_stoppedWith) 0 dX2_stoppedWith_4 rfl rfl) ?_
  refine flp (go_gR (pc := 5) (Y := YX2_stoppedWith) fF1016 (by decide) q1655 (Or.inl rfl) dX2_stoppedWith_5) (fun v4 => ?_)
  refine im (go_iload_n (pc := 8) (Y := YX2_stoppedWith) 1 dX2_stoppedWith_8 rfl rfl) ?_
  refine im (go_iload_n (pc := 9) (Y := YX2_stoppedWith) 2 dX2_stoppedWith_9 rfl rfl) ?_
  refine im (go_iconst (pc := 10) (Y := YX2_stoppedWith) (v := 1) dX2_stoppedWith_10 rfl) ?_
  refine im (go_iadd (pc := 11) (Y := YX2_stoppedWith) dX2_stoppedWith_11) ?_
  refine flp (go_tI (pc := 12) (Y := YX2_stoppedWith) dX2_stoppedWith_12) (fun s5 => ?_)
  refine im (go_aload_n (pc := 13) (Y := YX2_stoppedWith) 0 dX2_stoppedWith_13 rfl rfl) ?_
  refine kdg (fun k6 => ?_)
  refine bdg (fun s7 v8 he9 => ?_)
  refine im (go_callV (pc := 14) (Y := YX2_stoppedWith) (Yc := YX2_stopped) (y := yX2_stopped) (n := 0) (c0 := 2) (q := (RX2, TX2, 37)) this [] [] rfl rfl k6 (mX2_stopped s5 he9) YOK_X2_stopped rfl q2077 q133 q2076 qs113 q2074 (Nat.le_of_ble_eq_true rfl) (Nat.le_of_ble_eq_true rfl) (Nat.le_of_ble_eq_true rfl) dX2_stoppedWith_14 (st2 := [iV v8]) rfl) ?_
  clear he9
  refine e2 (fun q0 q1 => ?_)
  subst q0
  subst q1
  exact go_iret (pc := 17) (Y := YX2_stoppedWith) rfl dX2_stoppedWith_17
abbrev YX2_stoppedIf : mY := (RX2, cX2_stoppedIf, 3, (Option.some .int), 7, 161, false)
theorem YOK_X2_stoppedIf : YOK yX2_stoppedIf 2 := ⟨⟨by decide +kernel, by decide +kernel⟩, by decide +kernel⟩
theorem mX2_stoppedIf {G : gG} (s0 : St) {this : Nat} {p0 : Int32} {p1 : Int32} {sE : St} {vE : Int32} (h : sX2_stoppedIf s0 this p0 p1 = some (sE, vE)) : Mt G YX2_stoppedIf yX2_stoppedIf [rV (some this), iV p0, iV p1] s0 (some (iV vE)) sE := by
  refine go_start (ls0 := [(0, rV (some this)), (1, iV p0), (2, iV p1)]) (by decide +kernel) rfl (fun h => by cases h) (Nat.le_of_ble_eq_true rfl) rfl ?_
  revert h
  unfold sX2_stoppedIf
  refine im (go_aload_n (pc := 0) (Y := YX2_stoppedIf) 0 dX2_stoppedIf_0 rfl rfl) ?_
  refine kdg (fun k1 => ?_)
  refine bpg (fun s2 he3 => ?_)
  refine im (go_callV (pc := 1) (Y := YX2_stoppedIf) (Yc := YX2_good) (y := yX2_good) (n := 0) (c0 := 2) (q := (RX2, TX2, 37)) this [] [] rfl rfl k1 (mX2_good s0 he3) YOK_X2_good rfl q1760 q133 q1759 qs66 q1757 (Nat.le_of_ble_eq_true rfl) (Nat.le_of_ble_eq_true rfl) (Nat.le_of_ble_eq_true rfl) dX2_stoppedIf_1 (st2 := []) rfl) ?_
  clear he3
  refine im (go_aload_n (pc := 4) (Y := YX2_stoppedIf) 0 dX2_stoppedIf_4 rfl rfl) ?_
  refine im (go_iload_n (pc := 5) (Y := YX2_stoppedIf) 1 dX2_stoppedIf_5 rfl rfl) ?_
  refine kdg (fun k4 => ?_)
  refine bpg (fun v5 he6 => ?_)
  refine im (go_callV (pc := 6) (Y := YX2_stoppedIf) (Yc := YX2_isPerson) (y := yX2_isPerson) (n := 1) (c0 := 2) (q := (RX2, TX2, 37)) this [iV p0] [] rfl rfl k4 (mX2_isPerson s2 he6) YOK_X2_isPerson rfl q1942 q133 q1941 qs96 q1939 (Nat.le_of_ble_eq_true rfl) (Nat.le_of_ble_eq_true rfl) (Nat.le_of_ble_eq_true rfl) dX2_stoppedIf_6 (st2 := [iV v5]) rfl) ?_
  clear he6
  refine flp2 (go_if_eq (pc := 9) (Y := YX2_stoppedIf) 20 dX2_stoppedIf_9 (by decide)) ?_ ?_
  · refine im (go_aload_n (pc := 20) (Y := YX2_stoppedIf) 0 dX2_stoppedIf_20 rfl rfl) ?_
    refine im (go_iconst (pc := 21) (Y := YX2_stoppedIf) (v := 1) dX2_stoppedIf_21 rfl) ?_
    refine kdg (fun k7 => ?_)
    refine bdg (fun s8 v9 he10 => ?_)
    refine im (go_callV (pc := 22) (Y := YX2_stoppedIf) (Yc := YX2_no) (y := yX2_no) (n := 1) (c0 := 2) (q := (RX2, TX2, 37)) this [iV 1] [] rfl rfl k7 (mX2_no s2 he10) YOK_X2_no rfl q1767 q133 q1766 qs67 q1764 (Nat.le_of_ble_eq_true rfl) (Nat.le_of_ble_eq_true rfl) (Nat.le_of_ble_eq_true rfl) dX2_stoppedIf_22 (st2 := [iV v9]) rfl) ?_
    clear he10
    refine e2 (fun q0 q1 => ?_)
    subst q0
    subst q1
    exact go_iret (pc := 25) (Y := YX2_stoppedIf) rfl dX2_stoppedIf_25
  · refine im (go_aload_n (pc := 12) (Y := YX2_stoppedIf) 0 dX2_stoppedIf_12 rfl rfl) ?_
    refine im (go_iload_n (pc := 13) (Y := YX2_stoppedIf) 2 dX2_stoppedIf_13 rfl rfl) ?_
    refine kdg (fun k11 => ?_)
    refine bpg (fun v12 he13 => ?_)
    refine im (go_callV (pc := 14) (Y := YX2_stoppedIf) (Yc := YX2_isPlace) (y := yX2_isPlace) (n := 1) (c0 := 2) (q := (RX2, TX2, 37)) this [iV p1] [] rfl rfl k11 (mX2_isPlace s2 he13) YOK_X2_isPlace rfl q1993 q133 q1992 qs104 q1990 (Nat.le_of_ble_eq_true rfl) (Nat.le_of_ble_eq_true rfl) (Nat.le_of_ble_eq_true rfl) dX2_stoppedIf_14 (st2 := [iV v12]) rfl) ?_
    clear he13
    refine flp2 (go_if_ne (pc := 17) (Y := YX2_stoppedIf) 26 dX2_stoppedIf_17 (by decide)) ?_ ?_
    · refine im (go_aload_n (pc := 20) (Y := YX2_stoppedIf) 0 dX2_stoppedIf_20 rfl rfl) ?_
      refine im (go_iconst (pc := 21) (Y := YX2_stoppedIf) (v := 1) dX2_stoppedIf_21 rfl) ?_
      refine kdg (fun k14 => ?_)
      refine bdg (fun s15 v16 he17 => ?_)
      refine im (go_callV (pc := 22) (Y := YX2_stoppedIf) (Yc := YX2_no) (y := yX2_no) (n := 1) (c0 := 2) (q := (RX2, TX2, 37)) this [iV 1] [] rfl rfl k14 (mX2_no s2 he17) YOK_X2_no rfl q1767 q133 q1766 qs67 q1764 (Nat.le_of_ble_eq_true rfl) (Nat.le_of_ble_eq_true rfl) (Nat.le_of_ble_eq_true rfl) dX2_stoppedIf_22 (st2 := [iV v16]) rfl) ?_
      clear he17
      refine e2 (fun q0 q1 => ?_)
      subst q0
      subst q1
      exact go_iret (pc := 25) (Y := YX2_stoppedIf) rfl dX2_stoppedIf_25
    · refine im (go_aload_n (pc := 26) (Y := YX2_stoppedIf) 0 dX2_stoppedIf_26 rfl rfl) ?_
      refine im (go_iload_n (pc := 27) (Y := YX2_stoppedIf) 1 dX2_stoppedIf_27 rfl rfl) ?_
      refine kdg (fun k18 => ?_)
      refine bpg (fun v19 he20 => ?_)
      refine im (go_callV (pc := 28) (Y := YX2_stoppedIf) (Yc := YX2_canHire) (y := yX2_canHire) (n := 1) (c0 := 2) (q := (RX2, TX2, 37)) this [iV p0] [] rfl rfl k18 (mX2_canHire s2 he20) YOK_X2_canHire rfl q2116 q133 q2115 qs115 q2113 (Nat.le_of_ble_eq_true rfl) (Nat.le_of_ble_eq_true rfl) (Nat.le_of_ble_eq_true rfl) dX2_stoppedIf_28 (st2 := [iV v19]) rfl) ?_
      clear he20
      refine flp2 (go_if_eq (pc := 31) (Y := YX2_stoppedIf) 43 dX2_stoppedIf_31 (by decide)) ?_ ?_
      · refine im (go_aload_n (pc := 43) (Y := YX2_stoppedIf) 0 dX2_stoppedIf_43 rfl rfl) ?_
        refine im (go_iconst (pc := 44) (Y := YX2_stoppedIf) (v := 5) dX2_stoppedIf_44 rfl) ?_
        refine kdg (fun k21 => ?_)
        refine bdg (fun s22 v23 he24 => ?_)
        refine im (go_callV (pc := 45) (Y := YX2_stoppedIf) (Yc := YX2_no) (y := yX2_no) (n := 1) (c0 := 2) (q := (RX2, TX2, 37)) this [iV 5] [] rfl rfl k21 (mX2_no s2 he24) YOK_X2_no rfl q1767 q133 q1766 qs67 q1764 (Nat.le_of_ble_eq_true rfl) (Nat.le_of_ble_eq_true rfl) (Nat.le_of_ble_eq_true rfl) dX2_stoppedIf_45 (st2 := [iV v23]) rfl) ?_
        clear he24
        refine e2 (fun q0 q1 => ?_)
        subst q0
        subst q1
        exact go_iret (pc := 48) (Y := YX2_stoppedIf) rfl dX2_stoppedIf_48
      · refine im (go_aload_n (pc := 34) (Y := YX2_stoppedIf) 0 dX2_stoppedIf_34 rfl rfl) ?_
        refine im (go_iload_n (pc := 35) (Y := YX2_stoppedIf) 1 dX2_stoppedIf_35 rfl rfl) ?_
        refine im (go_iload_n (pc := 36) (Y := YX2_stoppedIf) 2 dX2_stoppedIf_36 rfl rfl) ?_
        refine kdg (fun k25 => ?_)
        refine bdg (fun s26 v27 he28 => ?_)
        refine im (go_callV (pc := 37) (Y := YX2_stoppedIf) (Yc := YX2_stoppedWith) (y := yX2_stoppedWith) (n := 2) (c0 := 2) (q := (RX2, TX2, 37)) this [iV p0, iV p1] [] rfl rfl k25 (mX2_stoppedWith s2 he28) YOK_X2_stoppedWith rfl q2132 q133 q2131 qs117 q2129 (Nat.le_of_ble_eq_true rfl) (Nat.le_of_ble_eq_true rfl) (Nat.le_of_ble_eq_true rfl) dX2_stoppedIf_37 (st2 := [iV v27]) rfl) ?_
        clear he28
        refine im (go_goto (pc := 40) (Y := YX2_stoppedIf) 48 dX2_stoppedIf_40 (by decide)) ?_
        refine e2 (fun q0 q1 => ?_)
        subst q0
        subst q1
        exact go_iret (pc := 48) (Y := YX2_stoppedIf) rfl dX2_stoppedIf_48
abbrev YX2_bestHire : mY := (RX2, cX2_bestHire, 6, (Option.some .int), 7, 161, false)
theorem YOK_X2_bestHire : YOK yX2_bestHire 0 := ⟨⟨by decide +kernel, by decide +kernel⟩, by decide +kernel⟩
theorem sX2_bestHire_L47_go {G : gG} {s0 sE : St} {rE : Option V3} (this : Nat) (i3 : Int32) : ∀ (n : Nat) (s26 : St) (v27 : Int32) (v28 : Int32) (v29 : Int32) (s30 : St) (v31 : Int32) (v32 : Int32), sX2_bestHire_L47 this i3 n s26 v27 v28 v29 = some (s30, v31, v32) → Go G YX2_bestHire s0 sE rE 104 [(0, rV (some this)), (1, iV v31), (2, iV v32), (3, iV i3)] [] s30 → Go G YX2_bestHire s0 sE rE 47 [(0, rV (some this)), (1, iV v27), (2, iV v28), (3, iV i3), (4, iV v29)] [] s26 := by
  intro n
  induction n with
  | zero => intro s26 v27 v28 v29 s30 v31 v32 h hx; rw [sX2_bestHire_L47] at h; cases h
  | succ n ih =>
    intro s26 v27 v28 v29 s30 v31 v32 h hx
    revert h
    rw [sX2_bestHire_L47]
    refine im (go_iload (pc := 47) (Y := YX2_bestHire) 4 dX2_bestHire_47 rfl) ?_
    refine im (go_aload_n (pc := 49) (Y := YX2_bestHire) 0 dX2_bestHire_49 rfl rfl) ?_
    refine flp (go_gR (pc := 50) (Y := YX2_bestHire) fF1011 (by decide) q1648 (Or.inl rfl) dX2_bestHire_50) (fun v33 => ?_)
    refine im (go_iconst (pc := 53) (Y := YX2_bestHire) (v := 1) dX2_bestHire_53 rfl) ?_
    refine flp (go_lI1 (pc := 54) (Y := YX2_bestHire) dX2_bestHire_54) (fun v34 => ?_)
    refine flp2 (go_icmp_ge (pc := 55) (Y := YX2_bestHire) 104 dX2_bestHire_55 (by decide)) ?_ ?_
    · refine e3 (fun q0 q1 q2 => ?_)
      subst q0
      subst q1
      subst q2
      exact go_sub [0, 1, 2, 3] rfl hx
    · refine im (go_aload_n (pc := 58) (Y := YX2_bestHire) 0 dX2_bestHire_58 rfl rfl) ?_
      refine im (go_iload_n (pc := 59) (Y := YX2_bestHire) 3 dX2_bestHire_59 rfl rfl) ?_
      refine kdg (fun k35 => ?_)
      refine bpg (fun v36 he37 => ?_)
      refine im (go_callV (pc := 60) (Y := YX2_bestHire) (Yc := YX2_canHire) (y := yX2_canHire) (n := 1) (c0 := 2) (q := (RX2, TX2, 37)) this [iV i3] [] rfl rfl k35 (mX2_canHire s26 he37) YOK_X2_canHire rfl q2116 q133 q2115 qs115 q2113 (Nat.le_of_ble_eq_true rfl) (Nat.le_of_ble_eq_true rfl) (Nat.le_of_ble_eq_true rfl) dX2_bestHire_60 (st2 := [iV v36]) rfl) ?_
      clear he37
      refine flp2 (go_if_eq (pc := 63) (Y := YX2_bestHire) 104 dX2_bestHire_63 (by decide)) ?_ ?_
      · refine e3 (fun q0 q1 q2 => ?_)
        subst q0
        subst q1
        subst q2
        exact go_sub [0, 1, 2, 3] rfl hx
      · refine im (go_aload_n (pc := 66) (Y := YX2_bestHire) 0 dX2_bestHire_66 rfl rfl) ?_
        refine im (go_iload_n (pc := 67) (Y := YX2_bestHire) 3 dX2_bestHire_67 rfl rfl) ?_
        refine im (go_iload (pc := 68) (Y := YX2_bestHire) 4 dX2_bestHire_68 rfl) ?_
        refine kdg (fun k38 => ?_)
        refine bdg (fun s39 v40 he41 => ?_)
        refine im (go_callV (pc := 70) (Y := YX2_bestHire) (Yc := YX2_stoppedWith) (y := yX2_stoppedWith) (n := 2) (c0 := 2) (q := (RX2, TX2, 37)) this [iV i3, iV v29] [] rfl rfl k38 (mX2_stoppedWith s26 he41) YOK_X2_stoppedWith rfl q2132 q133 q2131 qs117 q2129 (Nat.le_of_ble_eq_true rfl) (Nat.le_of_ble_eq_true rfl) (Nat.le_of_ble_eq_true rfl) dX2_bestHire_70 (st2 := [iV v40]) rfl) ?_
        clear he41
        refine bpg (fun v42 he43 => ?_)
        refine im (go_callS (pc := 73) (Y := YX2_bestHire) (Yc := YX2_ones) (y := yX2_ones) (n := 1) [iV v40] [] rfl (mX2_ones s39 he43) YOK_X2_ones rfl q2080 q133 q2079 q2078 (Nat.le_of_ble_eq_true rfl) (Nat.le_of_ble_eq_true rfl) (Nat.le_of_ble_eq_true rfl) dX2_bestHire_73 (st2 := [iV v42]) rfl) ?_
        clear he43
        refine im (go_istore (pc := 76) (Y := YX2_bestHire) (ls2 := [(5, iV v42), (0, rV (some this)), (1, iV v27), (2, iV v28), (3, iV i3), (4, iV v29)]) dX2_bestHire_76 (Nat.le_of_ble_eq_true rfl) rfl) ?_
        refine im (go_iload (pc := 78) (Y := YX2_bestHire) 0 dX2_bestHire_78 rfl) ?_
        refine im (go_iload_n (pc := 80) (Y := YX2_bestHire) 2 dX2_bestHire_80 rfl rfl) ?_
        refine b2g (fun v44 v45 he46 h47 => ?_)
        have hj98 : Go G YX2_bestHire s0 sE rE 98 [(0, rV (some this)), (1, iV v44), (2, iV v45), (3, iV i3), (4, iV v29)] [] s39 := by
          clear he46
          revert h47
          refine im (go_iinc (pc := 98) (Y := YX2_bestHire) 4 (v := (v29 + 1)) (ls2 := [(4, iV (v29 + 1)), (0, rV (some this)), (1, iV v44), (2, iV v45), (3, iV i3)]) dX2_bestHire_98 rfl rfl (Nat.le_of_ble_eq_true rfl) rfl) ?_
          refine im (go_goto (pc := 101) (Y := YX2_bestHire) 47 dX2_bestHire_101 (by decide)) ?_
          exact fun hq => go_sub [1, 2, 3, 4, 0] rfl (ih _ _ _ _ _ _ _ hq hx)
        clear h47
        revert he46
        refine flp2 (go_icmp_gt (pc := 81) (Y := YX2_bestHire) 87 dX2_bestHire_81 (by decide)) ?_ ?_
        · refine im (go_bipush (pc := 87) (Y := YX2_bestHire) (v := 10) dX2_bestHire_87 rfl) ?_
          refine im (go_iload_n (pc := 89) (Y := YX2_bestHire) 4 dX2_bestHire_89 rfl rfl) ?_
          refine im (go_imul (pc := 90) (Y := YX2_bestHire) dX2_bestHire_90) ?_
          refine im (go_iload (pc := 91) (Y := YX2_bestHire) 5 dX2_bestHire_91 rfl) ?_
          refine im (go_iadd (pc := 93) (Y := YX2_bestHire) dX2_bestHire_93) ?_
          refine im (go_istore_n (pc := 94) (Y := YX2_bestHire) (ls2 := [(2, iV ((10 * i3) + v29)), (5, iV v42), (0, rV (some this)), (1, iV v27), (3, iV i3), (4, iV v29)]) dX2_bestHire_94 rfl (Nat.le_of_ble_eq_true rfl) rfl) ?_
          refine im (go_iload (pc := 95) (Y := YX2_bestHire) 1 dX2_bestHire_95 rfl) ?_
          refine im (go_istore_n (pc := 97) (Y := YX2_bestHire) (ls2 := [(1, iV v42), (2, iV ((10 * i3) + v29)), (5, iV v42), (0, rV (some this)), (3, iV i3), (4, iV v29)]) dX2_bestHire_97 rfl (Nat.le_of_ble_eq_true rfl) rfl) ?_
          refine e2 (fun q0 q1 => ?_)
          subst q0
          subst q1
          exact go_sub [3, 0, 1, 4, 5] rfl hj98
        · refine im (go_goto (pc := 84) (Y := YX2_bestHire) 98 dX2_bestHire_84 (by decide)) ?_
          refine e2 (fun q0 q1 => ?_)
          subst q0
          subst q1
          exact go_sub [1, 2, 3, 4, 5] rfl hj98
theorem sX2_bestHire_L34_go {G : gG} {s0 sE : St} {rE : Option V3} (this : Nat) : ∀ (n : Nat) (s18 : St) (v19 : Int32) (v20 : Int32) (v21 : Int32) (s22 : St) (v23 : Int32), sX2_bestHire_L34 this n s18 v19 v20 v21 = some (s22, v23) → Go G YX2_bestHire s0 sE rE 110 [(2, iV v23)] [] s22 → Go G YX2_bestHire s0 sE rE 34 [(0, rV (some this)), (1, iV v19), (2, iV v20), (3, iV v21)] [] s18 := by
  intro n
  induction n with
  | zero => intro s18 v19 v20 v21 s22 v23 h hx; rw [sX2_bestHire_L34] at h; cases h
  | succ n ih =>
    intro s18 v19 v20 v21 s22 v23 h hx
    revert h
    rw [sX2_bestHire_L34]
    refine im (go_iload_n (pc := 34) (Y := YX2_bestHire) 3 dX2_bestHire_34 rfl rfl) ?_
    refine im (go_aload_n (pc := 35) (Y := YX2_bestHire) 0 dX2_bestHire_35 rfl rfl) ?_
    refine flp (go_gR (pc := 36) (Y := YX2_bestHire) fF1011 (by decide) q1648 (Or.inl rfl) dX2_bestHire_36) (fun v24 => ?_)
    refine im (go_iconst (pc := 39) (Y := YX2_bestHire) (v := 3) dX2_bestHire_39 rfl) ?_
    refine flp (go_lI1 (pc := 40) (Y := YX2_bestHire) dX2_bestHire_40) (fun v25 => ?_)
    refine flp2 (go_icmp_ge (pc := 41) (Y := YX2_bestHire) 110 dX2_bestHire_41 (by decide)) ?_ ?_
    · refine e2 (fun q0 q1 => ?_)
      subst q0
      subst q1
      exact go_sub [2] rfl hx
    · refine im (go_iconst (pc := 44) (Y := YX2_bestHire) (v := 0) dX2_bestHire_44 rfl) ?_
      refine im (go_istore (pc := 45) (Y := YX2_bestHire) (ls2 := [(4, iV 0), (0, rV (some this)), (1, iV v19), (2, iV v20), (3, iV v21)]) dX2_bestHire_45 (Nat.le_of_ble_eq_true rfl) rfl) ?_
      refine b3g (fun s48 v49 v50 he51 h52 => ?_)
      refine go_sub [1, 2, 3, 4, 0] rfl (sX2_bestHire_L47_go this v21 FU _ _ _ _ _ _ _ he51 ?_)
      clear he51
      revert h52
      refine im (go_iinc (pc := 104) (Y := YX2_bestHire) 3 (v := (v21 + 1)) (ls2 := [(3, iV (v21 + 1)), (0, rV (some this)), (1, iV v49), (2, iV v50)]) dX2_bestHire_104 rfl rfl (Nat.le_of_ble_eq_true rfl) rfl) ?_
      refine im (go_goto (pc := 107) (Y := YX2_bestHire) 34 dX2_bestHire_107 (by decide)) ?_
      exact fun hq => go_sub [1, 2, 3, 0] rfl (ih _ _ _ _ _ _ hq hx)
theorem mX2_bestHire {G : gG} (s0 : St) {this : Nat} {sE : St} {vE : Int32} (h : sX2_bestHire s0 this = some (sE, vE)) : Mt G YX2_bestHire yX2_bestHire [rV (some this)] s0 (some (iV vE)) sE := by
  refine go_start (ls0 := [(0, rV (some this))]) (by decide +kernel) rfl (fun h => by cases h) (Nat.le_of_ble_eq_true rfl) rfl ?_
  revert h
  unfold sX2_bestHire
  refine im (go_aload_n (pc := 0) (Y := YX2_bestHire) 0 dX2_bestHire_0 rfl rfl) ?_
  refine kdg (fun k1 => ?_)
  refine bpg (fun s2 he3 => ?_)
  refine im (go_callV (pc := 1) (Y := YX2_bestHire) (Yc := YX2_good) (y := yX2_good) (n := 0) (c0 := 2) (q := (RX2, TX2, 37)) this [] [] rfl rfl k1 (mX2_good s0 he3) YOK_X2_good rfl q1760 q133 q1759 qs66 q1757 (Nat.le_of_ble_eq_true rfl) (Nat.le_of_ble_eq_true rfl) (Nat.le_of_ble_eq_true rfl) dX2_bestHire_1 (st2 := []) rfl) ?_
  clear he3
  refine im (go_aload_n (pc := 4) (Y := YX2_bestHire) 0 dX2_bestHire_4 rfl rfl) ?_
  refine flp (go_gI (pc := 5) (Y := YX2_bestHire) fF31 (by decide) q1647 (Or.inl rfl) dX2_bestHire_5) (fun v4 => ?_)
  refine flp2 (go_if_ne (pc := 8) (Y := YX2_bestHire) 17 dX2_bestHire_8 (by decide)) ?_ ?_
  · refine im (go_aload_n (pc := 11) (Y := YX2_bestHire) 0 dX2_bestHire_11 rfl rfl) ?_
    refine im (go_iconst (pc := 12) (Y := YX2_bestHire) (v := 1) dX2_bestHire_12 rfl) ?_
    refine kdg (fun k5 => ?_)
    refine bdg (fun s6 v7 he8 => ?_)
    refine im (go_callV (pc := 13) (Y := YX2_bestHire) (Yc := YX2_no) (y := yX2_no) (n := 1) (c0 := 2) (q := (RX2, TX2, 37)) this [iV 1] [] rfl rfl k5 (mX2_no s2 he8) YOK_X2_no rfl q1767 q133 q1766 qs67 q1764 (Nat.le_of_ble_eq_true rfl) (Nat.le_of_ble_eq_true rfl) (Nat.le_of_ble_eq_true rfl) dX2_bestHire_13 (st2 := [iV v7]) rfl) ?_
    clear he8
    refine e2 (fun q0 q1 => ?_)
    subst q0
    subst q1
    exact go_iret (pc := 16) (Y := YX2_bestHire) rfl dX2_bestHire_16
  · refine im (go_aload_n (pc := 17) (Y := YX2_bestHire) 0 dX2_bestHire_17 rfl rfl) ?_
    refine kdg (fun k9 => ?_)
    refine bpg (fun s10 he11 => ?_)
    refine im (go_callV (pc := 18) (Y := YX2_bestHire) (Yc := YX2_asNow) (y := yX2_asNow) (n := 0) (c0 := 2) (q := (RX2, TX2, 37)) this [] [] rfl rfl k9 (mX2_asNow s2 he11) YOK_X2_asNow rfl q1981 q133 q1980 qs102 q1978 (Nat.le_of_ble_eq_true rfl) (Nat.le_of_ble_eq_true rfl) (Nat.le_of_ble_eq_true rfl) dX2_bestHire_18 (st2 := []) rfl) ?_
    clear he11
    refine im (go_aload_n (pc := 21) (Y := YX2_bestHire) 0 dX2_bestHire_21 rfl rfl) ?_
    refine kdg (fun k12 => ?_)
    refine bdg (fun s13 v14 he15 => ?_)
    refine im (go_callV (pc := 22) (Y := YX2_bestHire) (Yc := YX2_stopped) (y := yX2_stopped) (n := 0) (c0 := 2) (q := (RX2, TX2, 37)) this [] [] rfl rfl k12 (mX2_stopped s10 he15) YOK_X2_stopped rfl q2077 q133 q2076 qs113 q2074 (Nat.le_of_ble_eq_true rfl) (Nat.le_of_ble_eq_true rfl) (Nat.le_of_ble_eq_true rfl) dX2_bestHire_22 (st2 := [iV v14]) rfl) ?_
    clear he15
    refine bpg (fun v16 he17 => ?_)
    refine im (go_callS (pc := 25) (Y := YX2_bestHire) (Yc := YX2_ones) (y := yX2_ones) (n := 1) [iV v14] [] rfl (mX2_ones s13 he17) YOK_X2_ones rfl q2080 q133 q2079 q2078 (Nat.le_of_ble_eq_true rfl) (Nat.le_of_ble_eq_true rfl) (Nat.le_of_ble_eq_true rfl) dX2_bestHire_25 (st2 := [iV v16]) rfl) ?_
    clear he17
    refine im (go_istore_n (pc := 28) (Y := YX2_bestHire) (ls2 := [(1, iV v16), (0, rV (some this))]) dX2_bestHire_28 rfl (Nat.le_of_ble_eq_true rfl) rfl) ?_
    refine im (go_bipush (pc := 29) (Y := YX2_bestHire) (v := -2) dX2_bestHire_29 rfl) ?_
    refine im (go_istore_n (pc := 31) (Y := YX2_bestHire) (ls2 := [(2, iV (-2)), (1, iV v16), (0, rV (some this))]) dX2_bestHire_31 rfl (Nat.le_of_ble_eq_true rfl) rfl) ?_
    refine im (go_iconst (pc := 32) (Y := YX2_bestHire) (v := 0) dX2_bestHire_32 rfl) ?_
    refine im (go_istore_n (pc := 33) (Y := YX2_bestHire) (ls2 := [(3, iV 0), (2, iV (-2)), (1, iV v16), (0, rV (some this))]) dX2_bestHire_33 rfl (Nat.le_of_ble_eq_true rfl) rfl) ?_
    refine b2g (fun s53 v54 he55 h56 => ?_)
    refine go_sub [3, 2, 1, 0] rfl (sX2_bestHire_L34_go this FU _ _ _ _ _ _ he55 ?_)
    clear he55
    revert h56
    refine im (go_iload_n (pc := 110) (Y := YX2_bestHire) 0 dX2_bestHire_110 rfl rfl) ?_
    refine e2 (fun q0 q1 => ?_)
    subst q0
    subst q1
    exact go_iret (pc := 111) (Y := YX2_bestHire) rfl dX2_bestHire_111
abbrev YX2_wrongBy : mY := (RX2, cX2_wrongBy, 3, (Option.some .int), 5, 117, false)
theorem YOK_X2_wrongBy : YOK yX2_wrongBy 1 := ⟨⟨by decide +kernel, by decide +kernel⟩, by decide +kernel⟩
theorem sX2_wrongBy_L6_go {G : gG} {s0 sE : St} {rE : Option V3} (this : Nat) (i1 : Int32) : ∀ (n : Nat) (s4 : St) (v5 : Int32) (s6 : St), sX2_wrongBy_L6 this n s4 v5 = some s6 → Go G YX2_wrongBy s0 sE rE 25 [(0, rV (some this)), (1, iV i1)] [] s6 → Go G YX2_wrongBy s0 sE rE 6 [(0, rV (some this)), (1, iV i1), (2, iV v5)] [] s4 := by
  intro n
  induction n with
  | zero => intro s4 v5 s6 h hx; rw [sX2_wrongBy_L6] at h; cases h
  | succ n ih =>
    intro s4 v5 s6 h hx
    revert h
    rw [sX2_wrongBy_L6]
    refine im (go_iload_n (pc := 6) (Y := YX2_wrongBy) 2 dX2_wrongBy_6 rfl rfl) ?_
    refine im (go_bipush (pc := 7) (Y := YX2_wrongBy) (v := 8) dX2_wrongBy_7 rfl) ?_
    refine flp2 (go_icmp_ge (pc := 9) (Y := YX2_wrongBy) 25 dX2_wrongBy_9 (by decide)) ?_ ?_
    · refine e1 (fun q0 => ?_)
      subst q0
      exact go_sub [0, 1] rfl hx
    · refine im (go_aload_n (pc := 12) (Y := YX2_wrongBy) 0 dX2_wrongBy_12 rfl rfl) ?_
      refine flp (go_gR (pc := 13) (Y := YX2_wrongBy) fF1016 (by decide) q1655 (Or.inl rfl) dX2_wrongBy_13) (fun v7 => ?_)
      refine im (go_iload_n (pc := 16) (Y := YX2_wrongBy) 2 dX2_wrongBy_16 rfl rfl) ?_
      refine im (go_iconst (pc := 17) (Y := YX2_wrongBy) (v := 0) dX2_wrongBy_17 rfl) ?_
      refine flp (go_tI (pc := 18) (Y := YX2_wrongBy) dX2_wrongBy_18) (fun s8 => ?_)
      refine im (go_iinc (pc := 19) (Y := YX2_wrongBy) 2 (v := (v5 + 1)) (ls2 := [(2, iV (v5 + 1)), (0, rV (some this)), (1, iV i1)]) dX2_wrongBy_19 rfl rfl (Nat.le_of_ble_eq_true rfl) rfl) ?_
      refine im (go_goto (pc := 22) (Y := YX2_wrongBy) 6 dX2_wrongBy_22 (by decide)) ?_
      exact fun hq => go_sub [1, 2, 0] rfl (ih _ _ _ hq hx)
theorem sX2_wrongBy_L27_go {G : gG} {s0 sE : St} {rE : Option V3} (this : Nat) (i1 : Int32) : ∀ (n : Nat) (s10 : St) (v11 : Int32) (s12 : St), sX2_wrongBy_L27 this i1 n s10 v11 = some s12 → Go G YX2_wrongBy s0 sE rE 81 [(0, rV (some this))] [] s12 → Go G YX2_wrongBy s0 sE rE 27 [(0, rV (some this)), (1, iV i1), (2, iV v11)] [] s10 := by
  intro n
  induction n with
  | zero => intro s10 v11 s12 h hx; rw [sX2_wrongBy_L27] at h; cases h
  | succ n ih =>
    intro s10 v11 s12 h hx
    revert h
    rw [sX2_wrongBy_L27]
    refine im (go_iload_n (pc := 27) (Y := YX2_wrongBy) 2 dX2_wrongBy_27 rfl rfl) ?_
    refine im (go_aload_n (pc := 28) (Y := YX2_wrongBy) 0 dX2_wrongBy_28 rfl rfl) ?_
    refine flp (go_gR (pc := 29) (Y := YX2_wrongBy) fF1011 (by decide) q1648 (Or.inl rfl) dX2_wrongBy_29) (fun v13 => ?_)
    refine im (go_bipush (pc := 32) (Y := YX2_wrongBy) (v := 7) dX2_wrongBy_32 rfl) ?_
    refine flp (go_lI1 (pc := 34) (Y := YX2_wrongBy) dX2_wrongBy_34) (fun v14 => ?_)
    refine flp2 (go_icmp_ge (pc := 35) (Y := YX2_wrongBy) 81 dX2_wrongBy_35 (by decide)) ?_ ?_
    · refine e1 (fun q0 => ?_)
      subst q0
      exact go_sub [0] rfl hx
    · refine im (go_iload_n (pc := 38) (Y := YX2_wrongBy) 1 dX2_wrongBy_38 rfl rfl) ?_
      refine im (go_iload_n (pc := 39) (Y := YX2_wrongBy) 2 dX2_wrongBy_39 rfl rfl) ?_
      refine bpg (fun v15 he16 => ?_)
      refine im (go_callS (pc := 40) (Y := YX2_wrongBy) (Yc := YX2_hasBit) (y := yX2_hasBit) (n := 2) [iV i1, iV v11] [] rfl (mX2_hasBit s10 he16) YOK_X2_hasBit rfl q2000 q133 q1999 q1998 (Nat.le_of_ble_eq_true rfl) (Nat.le_of_ble_eq_true rfl) (Nat.le_of_ble_eq_true rfl) dX2_wrongBy_40 (st2 := [iV v15]) rfl) ?_
      clear he16
      refine bpg (fun s17 he24 h25 => ?_)
      have hj75 : Go G YX2_wrongBy s0 sE rE 75 [(0, rV (some this)), (1, iV i1), (2, iV v11)] [] s17 := by
        clear he24
        revert h25
        refine im (go_iinc (pc := 75) (Y := YX2_wrongBy) 2 (v := (v11 + 1)) (ls2 := [(2, iV (v11 + 1)), (0, rV (some this)), (1, iV i1)]) dX2_wrongBy_75 rfl rfl (Nat.le_of_ble_eq_true rfl) rfl) ?_
        refine im (go_goto (pc := 78) (Y := YX2_wrongBy) 27 dX2_wrongBy_78 (by decide)) ?_
        exact fun hq => go_sub [1, 2, 0] rfl (ih _ _ _ hq hx)
      clear h25
      revert he24
      refine flp2 (go_if_eq (pc := 43) (Y := YX2_wrongBy) 75 dX2_wrongBy_43 (by decide)) ?_ ?_
      · refine e1 (fun q0 => ?_)
        subst q0
        exact go_sub [0, 1, 2] rfl hj75
      · refine im (go_aload_n (pc := 46) (Y := YX2_wrongBy) 0 dX2_wrongBy_46 rfl rfl) ?_
        refine flp (go_gR (pc := 47) (Y := YX2_wrongBy) fF1017 (by decide) q1656 (Or.inl rfl) dX2_wrongBy_47) (fun v18 => ?_)
        refine im (go_aload_n (pc := 50) (Y := YX2_wrongBy) 0 dX2_wrongBy_50 rfl rfl) ?_
        refine flp (go_gR (pc := 51) (Y := YX2_wrongBy) fF1011 (by decide) q1648 (Or.inl rfl) dX2_wrongBy_51) (fun v19 => ?_)
        refine im (go_bipush (pc := 54) (Y := YX2_wrongBy) (v := 95) dX2_wrongBy_54 rfl) ?_
        refine im (go_iconst (pc := 56) (Y := YX2_wrongBy) (v := 2) dX2_wrongBy_56 rfl) ?_
        refine im (go_iload_n (pc := 57) (Y := YX2_wrongBy) 2 dX2_wrongBy_57 rfl rfl) ?_
        refine im (go_imul (pc := 58) (Y := YX2_wrongBy) dX2_wrongBy_58) ?_
        refine im (go_iadd (pc := 59) (Y := YX2_wrongBy) dX2_wrongBy_59) ?_
        refine flp (go_lI1 (pc := 60) (Y := YX2_wrongBy) dX2_wrongBy_60) (fun v20 => ?_)
        refine im (go_aload_n (pc := 61) (Y := YX2_wrongBy) 0 dX2_wrongBy_61 rfl rfl) ?_
        refine flp (go_gR (pc := 62) (Y := YX2_wrongBy) fF1011 (by decide) q1648 (Or.inl rfl) dX2_wrongBy_62) (fun v21 => ?_)
        refine im (go_bipush (pc := 65) (Y := YX2_wrongBy) (v := 95) dX2_wrongBy_65 rfl) ?_
        refine im (go_iconst (pc := 67) (Y := YX2_wrongBy) (v := 2) dX2_wrongBy_67 rfl) ?_
        refine im (go_iload_n (pc := 68) (Y := YX2_wrongBy) 2 dX2_wrongBy_68 rfl rfl) ?_
        refine im (go_imul (pc := 69) (Y := YX2_wrongBy) dX2_wrongBy_69) ?_
        refine im (go_iadd (pc := 70) (Y := YX2_wrongBy) dX2_wrongBy_70) ?_
        refine im (go_iconst (pc := 71) (Y := YX2_wrongBy) (v := 1) dX2_wrongBy_71 rfl) ?_
        refine im (go_iadd (pc := 72) (Y := YX2_wrongBy) dX2_wrongBy_72) ?_
        refine flp (go_lI1 (pc := 73) (Y := YX2_wrongBy) dX2_wrongBy_73) (fun v22 => ?_)
        refine flp (go_tI (pc := 74) (Y := YX2_wrongBy) dX2_wrongBy_74) (fun s23 => ?_)
        refine e1 (fun q0 => ?_)
        subst q0
        exact go_sub [0, 1, 2] rfl hj75
theorem sX2_wrongBy_L83_go {G : gG} {s0 : St} {sE : St} {vE : Int32} (this : Nat) : ∀ (n : Nat) (s27 : St) (v28 : Int32) (o : (St × Int32) ⊕ (St)), sX2_wrongBy_L83 this n s27 v28 = some o → (∀ r, o = .inl r → r = (sE, vE)) → (∀ (s29 : St), o = .inr s29 → Go G YX2_wrongBy s0 sE (some (iV vE)) 139 [] [] s29) → Go G YX2_wrongBy s0 sE (some (iV vE)) 83 [(0, rV (some this)), (2, iV v28)] [] s27 := by
  intro n
  induction n with
  | zero => intro s27 v28 o h hr hx; rw [sX2_wrongBy_L83] at h; cases h
  | succ n ih =>
    intro s27 v28 o h hr hx
    revert h
    rw [sX2_wrongBy_L83]
    refine im (go_iload_n (pc := 83) (Y := YX2_wrongBy) 1 dX2_wrongBy_83 rfl rfl) ?_
    refine im (go_aload_n (pc := 84) (Y := YX2_wrongBy) 0 dX2_wrongBy_84 rfl rfl) ?_
    refine flp (go_gR (pc := 85) (Y := YX2_wrongBy) fF1011 (by decide) q1648 (Or.inl rfl) dX2_wrongBy_85) (fun v30 => ?_)
    refine im (go_iconst (pc := 88) (Y := YX2_wrongBy) (v := 5) dX2_wrongBy_88 rfl) ?_
    refine flp (go_lI1 (pc := 89) (Y := YX2_wrongBy) dX2_wrongBy_89) (fun v31 => ?_)
    refine flp2 (go_icmp_ge (pc := 90) (Y := YX2_wrongBy) 139 dX2_wrongBy_90 (by decide)) ?_ ?_
    · refine eor (fun hq => ?_)
      exact go_sub [] rfl (hx _ hq)
    · refine im (go_aload_n (pc := 93) (Y := YX2_wrongBy) 0 dX2_wrongBy_93 rfl rfl) ?_
      refine flp (go_gR (pc := 94) (Y := YX2_wrongBy) fF1011 (by decide) q1648 (Or.inl rfl) dX2_wrongBy_94) (fun v32 => ?_)
      refine im (go_bipush (pc := 97) (Y := YX2_wrongBy) (v := 103) dX2_wrongBy_97 rfl) ?_
      refine im (go_iload_n (pc := 99) (Y := YX2_wrongBy) 1 dX2_wrongBy_99 rfl rfl) ?_
      refine im (go_iadd (pc := 100) (Y := YX2_wrongBy) dX2_wrongBy_100) ?_
      refine flp (go_lI1 (pc := 101) (Y := YX2_wrongBy) dX2_wrongBy_101) (fun v33 => ?_)
      refine flp2 (go_if_ne (pc := 102) (Y := YX2_wrongBy) 108 dX2_wrongBy_102 (by decide)) ?_ ?_
      · refine im (go_goto (pc := 105) (Y := YX2_wrongBy) 133 dX2_wrongBy_105 (by decide)) ?_
        refine im (go_iinc (pc := 133) (Y := YX2_wrongBy) 1 (v := (v28 + 1)) (ls2 := [(2, iV (v28 + 1)), (0, rV (some this))]) dX2_wrongBy_133 rfl rfl (Nat.le_of_ble_eq_true rfl) rfl) ?_
        refine im (go_goto (pc := 136) (Y := YX2_wrongBy) 83 dX2_wrongBy_136 (by decide)) ?_
        exact fun hq => go_sub [1, 0] rfl (ih _ _ _ hq hr hx)
      · refine im (go_aload_n (pc := 108) (Y := YX2_wrongBy) 0 dX2_wrongBy_108 rfl rfl) ?_
        refine im (go_iload_n (pc := 109) (Y := YX2_wrongBy) 1 dX2_wrongBy_109 rfl rfl) ?_
        refine kdg (fun k34 => ?_)
        refine bpg (fun s35 he36 => ?_)
        refine im (go_callV (pc := 110) (Y := YX2_wrongBy) (Yc := YX2_runTold) (y := yX2_runTold) (n := 1) (c0 := 2) (q := (RX2, TX2, 37)) this [iV v28] [] rfl rfl k34 (mX2_runTold s27 he36) YOK_X2_runTold rfl q2040 q133 q2039 qs110 q2037 (Nat.le_of_ble_eq_true rfl) (Nat.le_of_ble_eq_true rfl) (Nat.le_of_ble_eq_true rfl) dX2_wrongBy_110 (st2 := []) rfl) ?_
        clear he36
        refine im (go_aload_n (pc := 113) (Y := YX2_wrongBy) 0 dX2_wrongBy_113 rfl rfl) ?_
        refine flp (go_gI (pc := 114) (Y := YX2_wrongBy) fF35 (by decide) q1659 (Or.inl rfl) dX2_wrongBy_114) (fun v37 => ?_)
        refine im (go_aload_n (pc := 117) (Y := YX2_wrongBy) 0 dX2_wrongBy_117 rfl rfl) ?_
        refine flp (go_gR (pc := 118) (Y := YX2_wrongBy) fF1011 (by decide) q1648 (Or.inl rfl) dX2_wrongBy_118) (fun v38 => ?_)
        refine im (go_bipush (pc := 121) (Y := YX2_wrongBy) (v := 103) dX2_wrongBy_121 rfl) ?_
        refine im (go_iload_n (pc := 123) (Y := YX2_wrongBy) 1 dX2_wrongBy_123 rfl rfl) ?_
        refine im (go_iadd (pc := 124) (Y := YX2_wrongBy) dX2_wrongBy_124) ?_
        refine flp (go_lI1 (pc := 125) (Y := YX2_wrongBy) dX2_wrongBy_125) (fun v39 => ?_)
        refine im (go_iconst (pc := 126) (Y := YX2_wrongBy) (v := 1) dX2_wrongBy_126 rfl) ?_
        refine im (go_isub (pc := 127) (Y := YX2_wrongBy) dX2_wrongBy_127) ?_
        refine flp2 (go_icmp_eq (pc := 128) (Y := YX2_wrongBy) 133 dX2_wrongBy_128 (by decide)) ?_ ?_
        · refine im (go_iinc (pc := 133) (Y := YX2_wrongBy) 1 (v := (v28 + 1)) (ls2 := [(2, iV (v28 + 1)), (0, rV (some this))]) dX2_wrongBy_133 rfl rfl (Nat.le_of_ble_eq_true rfl) rfl) ?_
          refine im (go_goto (pc := 136) (Y := YX2_wrongBy) 83 dX2_wrongBy_136 (by decide)) ?_
          exact fun hq => go_sub [1, 0] rfl (ih _ _ _ hq hr hx)
        · refine im (go_iload_n (pc := 131) (Y := YX2_wrongBy) 1 dX2_wrongBy_131 rfl rfl) ?_
          refine eor (fun hq => ?_)
          have hq2 := hr _ hq
          obtain ⟨q0, q1⟩ := Prod.mk.inj hq2
          subst q0
          subst q1
          exact go_iret (pc := 132) (Y := YX2_wrongBy) rfl dX2_wrongBy_132
theorem mX2_wrongBy {G : gG} (s0 : St) {this : Nat} {p0 : Int32} {sE : St} {vE : Int32} (h : sX2_wrongBy s0 this p0 = some (sE, vE)) : Mt G YX2_wrongBy yX2_wrongBy [rV (some this), iV p0] s0 (some (iV vE)) sE := by
  refine go_start (ls0 := [(0, rV (some this)), (1, iV p0)]) (by decide +kernel) rfl (fun h => by cases h) (Nat.le_of_ble_eq_true rfl) rfl ?_
  revert h
  unfold sX2_wrongBy
  refine im (go_aload_n (pc := 0) (Y := YX2_wrongBy) 0 dX2_wrongBy_0 rfl rfl) ?_
  refine kdg (fun k1 => ?_)
  refine bpg (fun s2 he3 => ?_)
  refine im (go_callV (pc := 1) (Y := YX2_wrongBy) (Yc := YX2_asNow) (y := yX2_asNow) (n := 0) (c0 := 2) (q := (RX2, TX2, 37)) this [] [] rfl rfl k1 (mX2_asNow s0 he3) YOK_X2_asNow rfl q1981 q133 q1980 qs102 q1978 (Nat.le_of_ble_eq_true rfl) (Nat.le_of_ble_eq_true rfl) (Nat.le_of_ble_eq_true rfl) dX2_wrongBy_1 (st2 := []) rfl) ?_
  clear he3
  refine im (go_iconst (pc := 4) (Y := YX2_wrongBy) (v := 0) dX2_wrongBy_4 rfl) ?_
  refine im (go_istore_n (pc := 5) (Y := YX2_wrongBy) (ls2 := [(2, iV 0), (0, rV (some this)), (1, iV p0)]) dX2_wrongBy_5 rfl (Nat.le_of_ble_eq_true rfl) rfl) ?_
  refine bpg (fun s9 he46 h47 => ?_)
  refine go_sub [1, 2, 0] rfl (sX2_wrongBy_L6_go this p0 FU _ _ _ he46 ?_)
  clear he46
  revert h47
  refine im (go_iconst (pc := 25) (Y := YX2_wrongBy) (v := 0) dX2_wrongBy_25 rfl) ?_
  refine im (go_istore_n (pc := 26) (Y := YX2_wrongBy) (ls2 := [(2, iV 0), (0, rV (some this)), (1, iV p0)]) dX2_wrongBy_26 rfl (Nat.le_of_ble_eq_true rfl) rfl) ?_
  refine bpg (fun s26 he44 h45 => ?_)
  refine go_sub [1, 2, 0] rfl (sX2_wrongBy_L27_go this p0 FU _ _ _ he44 ?_)
  clear he44
  revert h45
  refine im (go_iconst (pc := 81) (Y := YX2_wrongBy) (v := 0) dX2_wrongBy_81 rfl) ?_
  refine im (go_istore_n (pc := 82) (Y := YX2_wrongBy) (ls2 := [(2, iV 0), (0, rV (some this))]) dX2_wrongBy_82 rfl (Nat.le_of_ble_eq_true rfl) rfl) ?_
  refine lcg (fun o43 he41 h42 => ?_)
  refine go_sub [1, 0] rfl (sX2_wrongBy_L83_go this FU _ _ _ he41 h42.1 (fun s40 hq => ?_))
  have hw := h42.2 s40 hq
  clear he41
  revert hw
  refine im (go_bipush (pc := 139) (Y := YX2_wrongBy) (v := -2) dX2_wrongBy_139 rfl) ?_
  refine e2 (fun q0 q1 => ?_)
  subst q0
  subst q1
  exact go_iret (pc := 141) (Y := YX2_wrongBy) rfl dX2_wrongBy_141
abbrev YX2_seekSets : mY := (RX2, cX2_seekSets, 5, (Option.some .int), 6, 139, false)
theorem YOK_X2_seekSets : YOK yX2_seekSets 1 := ⟨⟨by decide +kernel, by decide +kernel⟩, by decide +kernel⟩
theorem sX2_seekSets_L29_go {G : gG} {s0 sE : St} {rE : Option V3} (this : Nat) (i1 : Int32) (i2 : Int32) : ∀ (n : Nat) (s6 : St) (v7 : Int32) (s8 : St), sX2_seekSets_L29 this n s6 v7 = some s8 → Go G YX2_seekSets s0 sE rE 47 [(0, rV (some this)), (1, iV i1), (2, iV i2)] [] s8 → Go G YX2_seekSets s0 sE rE 29 [(0, rV (some this)), (1, iV i1), (2, iV i2), (3, iV v7)] [] s6 := by
  intro n
  induction n with
  | zero => intro s6 v7 s8 h hx; rw [sX2_seekSets_L29] at h; cases h
  | succ n ih =>
    intro s6 v7 s8 h hx
    revert h
    rw [sX2_seekSets_L29]
    refine im (go_iload_n (pc := 29) (Y := YX2_seekSets) 3 dX2_seekSets_29 rfl rfl) ?_
    refine im (go_iconst (pc := 30) (Y := YX2_seekSets) (v := 4) dX2_seekSets_30 rfl) ?_
    refine flp2 (go_icmp_ge (pc := 31) (Y := YX2_seekSets) 47 dX2_seekSets_31 (by decide)) ?_ ?_
    · refine e1 (fun q0 => ?_)
      subst q0
      exact go_sub [0, 1, 2] rfl hx
    · refine im (go_aload_n (pc := 34) (Y := YX2_seekSets) 0 dX2_seekSets_34 rfl rfl) ?_
      refine flp (go_gR (pc := 35) (Y := YX2_seekSets) fF1019 (by decide) q1665 (Or.inl rfl) dX2_seekSets_35) (fun v9 => ?_)
      refine im (go_iload_n (pc := 38) (Y := YX2_seekSets) 3 dX2_seekSets_38 rfl rfl) ?_
      refine im (go_iconst (pc := 39) (Y := YX2_seekSets) (v := 0) dX2_seekSets_39 rfl) ?_
      refine flp (go_tI (pc := 40) (Y := YX2_seekSets) dX2_seekSets_40) (fun s10 => ?_)
      refine im (go_iinc (pc := 41) (Y := YX2_seekSets) 3 (v := (v7 + 1)) (ls2 := [(3, iV (v7 + 1)), (0, rV (some this)), (1, iV i1), (2, iV i2)]) dX2_seekSets_41 rfl rfl (Nat.le_of_ble_eq_true rfl) rfl) ?_
      refine im (go_goto (pc := 44) (Y := YX2_seekSets) 29 dX2_seekSets_44 (by decide)) ?_
      exact fun hq => go_sub [1, 2, 3, 0] rfl (ih _ _ _ hq hx)
theorem sX2_seekSets_L118_go {G : gG} {s0 sE : St} {rE : Option V3} (this : Nat) (i1 : Int32) (i2 : Int32) (i3 : Int32) : ∀ (n : Nat) (s33 : St) (v34 : Int32) (s35 : St), sX2_seekSets_L118 this i3 n s33 v34 = some s35 → Go G YX2_seekSets s0 sE rE 152 [(0, rV (some this)), (1, iV i1), (2, iV i2), (3, iV i3)] [] s35 → Go G YX2_seekSets s0 sE rE 118 [(0, rV (some this)), (1, iV i1), (2, iV i2), (3, iV i3), (4, iV v34)] [] s33 := by
  intro n
  induction n with
  | zero => intro s33 v34 s35 h hx; rw [sX2_seekSets_L118] at h; cases h
  | succ n ih =>
    intro s33 v34 s35 h hx
    revert h
    rw [sX2_seekSets_L118]
    refine im (go_iload (pc := 118) (Y := YX2_seekSets) 4 dX2_seekSets_118 rfl) ?_
    refine im (go_aload_n (pc := 120) (Y := YX2_seekSets) 0 dX2_seekSets_120 rfl rfl) ?_
    refine flp (go_gR (pc := 121) (Y := YX2_seekSets) fF1011 (by decide) q1648 (Or.inl rfl) dX2_seekSets_121) (fun v36 => ?_)
    refine im (go_bipush (pc := 124) (Y := YX2_seekSets) (v := 7) dX2_seekSets_124 rfl) ?_
    refine flp (go_lI1 (pc := 126) (Y := YX2_seekSets) dX2_seekSets_126) (fun v37 => ?_)
    refine flp2 (go_icmp_ge (pc := 127) (Y := YX2_seekSets) 152 dX2_seekSets_127 (by decide)) ?_ ?_
    · refine e1 (fun q0 => ?_)
      subst q0
      exact go_sub [0, 1, 2, 3] rfl hx
    · refine im (go_aload_n (pc := 130) (Y := YX2_seekSets) 0 dX2_seekSets_130 rfl rfl) ?_
      refine flp (go_gR (pc := 131) (Y := YX2_seekSets) fF1019 (by decide) q1665 (Or.inl rfl) dX2_seekSets_131) (fun v38 => ?_)
      refine im (go_iload (pc := 134) (Y := YX2_seekSets) 4 dX2_seekSets_134 rfl) ?_
      refine im (go_dup2 (pc := 136) (Y := YX2_seekSets) dX2_seekSets_136 rfl rfl) ?_
      refine flp (go_lI1 (pc := 137) (Y := YX2_seekSets) dX2_seekSets_137) (fun v39 => ?_)
      refine im (go_iload_n (pc := 138) (Y := YX2_seekSets) 3 dX2_seekSets_138 rfl rfl) ?_
      refine im (go_iload (pc := 139) (Y := YX2_seekSets) 4 dX2_seekSets_139 rfl) ?_
      refine im (go_ishr (pc := 141) (Y := YX2_seekSets) dX2_seekSets_141) ?_
      refine im (go_iconst (pc := 142) (Y := YX2_seekSets) (v := 1) dX2_seekSets_142 rfl) ?_
      refine im (go_iand (pc := 143) (Y := YX2_seekSets) dX2_seekSets_143) ?_
      refine im (go_iadd (pc := 144) (Y := YX2_seekSets) dX2_seekSets_144) ?_
      refine flp (go_tI (pc := 145) (Y := YX2_seekSets) dX2_seekSets_145) (fun s40 => ?_)
      refine im (go_iinc (pc := 146) (Y := YX2_seekSets) 4 (v := (v34 + 1)) (ls2 := [(4, iV (v34 + 1)), (0, rV (some this)), (1, iV i1), (2, iV i2), (3, iV i3)]) dX2_seekSets_146 rfl rfl (Nat.le_of_ble_eq_true rfl) rfl) ?_
      refine im (go_goto (pc := 149) (Y := YX2_seekSets) 118 dX2_seekSets_149 (by decide)) ?_
      exact fun hq => go_sub [1, 2, 3, 4, 0] rfl (ih _ _ _ hq hx)
theorem sX2_seekSets_L49_go {G : gG} {s0 sE : St} {rE : Option V3} (this : Nat) (i1 : Int32) : ∀ (n : Nat) (s12 : St) (v13 : Int32) (v14 : Int32) (s15 : St) (v16 : Int32), sX2_seekSets_L49 this i1 n s12 v13 v14 = some (s15, v16) → Go G YX2_seekSets s0 sE rE 158 [(0, rV (some this)), (2, iV v16)] [] s15 → Go G YX2_seekSets s0 sE rE 49 [(0, rV (some this)), (1, iV i1), (2, iV v13), (3, iV v14)] [] s12 := by
  intro n
  induction n with
  | zero => intro s12 v13 v14 s15 v16 h hx; rw [sX2_seekSets_L49] at h; cases h
  | succ n ih =>
    intro s12 v13 v14 s15 v16 h hx
    revert h
    rw [sX2_seekSets_L49]
    refine im (go_iload_n (pc := 49) (Y := YX2_seekSets) 3 dX2_seekSets_49 rfl rfl) ?_
    refine im (go_iconst (pc := 50) (Y := YX2_seekSets) (v := 1) dX2_seekSets_50 rfl) ?_
    refine im (go_aload_n (pc := 51) (Y := YX2_seekSets) 0 dX2_seekSets_51 rfl rfl) ?_
    refine flp (go_gR (pc := 52) (Y := YX2_seekSets) fF1011 (by decide) q1648 (Or.inl rfl) dX2_seekSets_52) (fun v17 => ?_)
    refine im (go_bipush (pc := 55) (Y := YX2_seekSets) (v := 7) dX2_seekSets_55 rfl) ?_
    refine flp (go_lI1 (pc := 57) (Y := YX2_seekSets) dX2_seekSets_57) (fun v18 => ?_)
    refine im (go_ishl (pc := 58) (Y := YX2_seekSets) dX2_seekSets_58) ?_
    refine flp2 (go_icmp_ge (pc := 59) (Y := YX2_seekSets) 158 dX2_seekSets_59 (by decide)) ?_ ?_
    · refine e2 (fun q0 q1 => ?_)
      subst q0
      subst q1
      exact go_sub [0, 2] rfl hx
    · refine im (go_aload_n (pc := 62) (Y := YX2_seekSets) 0 dX2_seekSets_62 rfl rfl) ?_
      refine im (go_iload_n (pc := 63) (Y := YX2_seekSets) 3 dX2_seekSets_63 rfl rfl) ?_
      refine kdg (fun k19 => ?_)
      refine bdg (fun s20 v21 he22 => ?_)
      refine im (go_callV (pc := 64) (Y := YX2_seekSets) (Yc := YX2_wrongBy) (y := yX2_wrongBy) (n := 1) (c0 := 2) (q := (RX2, TX2, 37)) this [iV v14] [] rfl rfl k19 (mX2_wrongBy s12 he22) YOK_X2_wrongBy rfl q2148 q133 q2147 qs119 q2145 (Nat.le_of_ble_eq_true rfl) (Nat.le_of_ble_eq_true rfl) (Nat.le_of_ble_eq_true rfl) dX2_seekSets_64 (st2 := [iV v21]) rfl) ?_
      clear he22
      refine im (go_bipush (pc := 67) (Y := YX2_seekSets) (v := -2) dX2_seekSets_67 rfl) ?_
      refine b2g (fun s23 v24 he46 h47 => ?_)
      have hj152 : Go G YX2_seekSets s0 sE rE 152 [(0, rV (some this)), (1, iV i1), (2, iV v24), (3, iV v14)] [] s23 := by
        clear he46
        revert h47
        refine im (go_iinc (pc := 152) (Y := YX2_seekSets) 3 (v := (v14 + 1)) (ls2 := [(3, iV (v14 + 1)), (0, rV (some this)), (1, iV i1), (2, iV v24)]) dX2_seekSets_152 rfl rfl (Nat.le_of_ble_eq_true rfl) rfl) ?_
        refine im (go_goto (pc := 155) (Y := YX2_seekSets) 49 dX2_seekSets_155 (by decide)) ?_
        exact fun hq => go_sub [1, 2, 3, 0] rfl (ih _ _ _ _ _ hq hx)
      clear h47
      revert he46
      refine flp2 (go_icmp_eq (pc := 69) (Y := YX2_seekSets) 75 dX2_seekSets_69 (by decide)) ?_ ?_
      · refine im (go_aload_n (pc := 75) (Y := YX2_seekSets) 0 dX2_seekSets_75 rfl rfl) ?_
        refine flp (go_gI (pc := 76) (Y := YX2_seekSets) fF41 (by decide) q1666 (Or.inl rfl) dX2_seekSets_76) (fun v25 => ?_)
        refine im (go_iload_n (pc := 79) (Y := YX2_seekSets) 1 dX2_seekSets_79 rfl rfl) ?_
        refine bpg (fun v26 he44 h45 => ?_)
        have hj85 : Go G YX2_seekSets s0 sE rE 85 [(0, rV (some this)), (1, iV i1), (2, iV v26), (3, iV v14)] [] s20 := by
          clear he44
          revert h45
          refine im (go_aload_n (pc := 85) (Y := YX2_seekSets) 0 dX2_seekSets_85 rfl rfl) ?_
          refine im (go_dup (pc := 86) (Y := YX2_seekSets) dX2_seekSets_86 rfl) ?_
          refine flp (go_gI (pc := 87) (Y := YX2_seekSets) fF41 (by decide) q1666 (Or.inl rfl) dX2_seekSets_87) (fun v27 => ?_)
          refine im (go_iconst (pc := 90) (Y := YX2_seekSets) (v := 1) dX2_seekSets_90 rfl) ?_
          refine im (go_iadd (pc := 91) (Y := YX2_seekSets) dX2_seekSets_91) ?_
          refine flp (go_pI (pc := 92) (Y := YX2_seekSets) fF41 (by decide) q1666 (Or.inl rfl) (Or.inl rfl) rfl rfl rfl dX2_seekSets_92) (fun s28 => ?_)
          refine im (go_aload_n (pc := 95) (Y := YX2_seekSets) 0 dX2_seekSets_95 rfl rfl) ?_
          refine im (go_dup (pc := 96) (Y := YX2_seekSets) dX2_seekSets_96 rfl) ?_
          refine flp (go_gI (pc := 97) (Y := YX2_seekSets) fF42 (by decide) q1667 (Or.inl rfl) dX2_seekSets_97) (fun v29 => ?_)
          refine im (go_iload_n (pc := 100) (Y := YX2_seekSets) 3 dX2_seekSets_100 rfl rfl) ?_
          refine im (go_ior (pc := 101) (Y := YX2_seekSets) dX2_seekSets_101) ?_
          refine flp (go_pI (pc := 102) (Y := YX2_seekSets) fF42 (by decide) q1667 (Or.inl rfl) (Or.inl rfl) rfl rfl rfl dX2_seekSets_102) (fun s30 => ?_)
          refine im (go_aload_n (pc := 105) (Y := YX2_seekSets) 0 dX2_seekSets_105 rfl rfl) ?_
          refine im (go_dup (pc := 106) (Y := YX2_seekSets) dX2_seekSets_106 rfl) ?_
          refine flp (go_gI (pc := 107) (Y := YX2_seekSets) fF43 (by decide) q1668 (Or.inl rfl) dX2_seekSets_107) (fun v31 => ?_)
          refine im (go_iload_n (pc := 110) (Y := YX2_seekSets) 3 dX2_seekSets_110 rfl rfl) ?_
          refine im (go_iand (pc := 111) (Y := YX2_seekSets) dX2_seekSets_111) ?_
          refine flp (go_pI (pc := 112) (Y := YX2_seekSets) fF43 (by decide) q1668 (Or.inl rfl) (Or.inl rfl) rfl rfl rfl dX2_seekSets_112) (fun s32 => ?_)
          refine im (go_iconst (pc := 115) (Y := YX2_seekSets) (v := 0) dX2_seekSets_115 rfl) ?_
          refine im (go_istore (pc := 116) (Y := YX2_seekSets) (ls2 := [(4, iV 0), (0, rV (some this)), (1, iV i1), (2, iV v26), (3, iV v14)]) dX2_seekSets_116 (Nat.le_of_ble_eq_true rfl) rfl) ?_
          refine bpg (fun s41 he42 h43 => ?_)
          refine go_sub [1, 2, 3, 4, 0] rfl (sX2_seekSets_L118_go this i1 v26 v14 FU _ _ _ he42 ?_)
          clear he42
          revert h43
          refine e2 (fun q0 q1 => ?_)
          subst q0
          subst q1
          exact go_sub [0, 1, 2, 3] rfl hj152
        clear h45
        revert he44
        refine flp2 (go_icmp_ne (pc := 80) (Y := YX2_seekSets) 85 dX2_seekSets_80 (by decide)) ?_ ?_
        · refine im (go_iload_n (pc := 83) (Y := YX2_seekSets) 3 dX2_seekSets_83 rfl rfl) ?_
          refine im (go_istore_n (pc := 84) (Y := YX2_seekSets) (ls2 := [(2, iV v14), (0, rV (some this)), (1, iV i1), (3, iV v14)]) dX2_seekSets_84 rfl (Nat.le_of_ble_eq_true rfl) rfl) ?_
          refine e1 (fun q0 => ?_)
          subst q0
          exact go_sub [1, 2, 0, 3] rfl hj85
        · refine e1 (fun q0 => ?_)
          subst q0
          exact go_sub [0, 1, 2, 3] rfl hj85
      · refine im (go_goto (pc := 72) (Y := YX2_seekSets) 152 dX2_seekSets_72 (by decide)) ?_
        refine e2 (fun q0 q1 => ?_)
        subst q0
        subst q1
        exact go_sub [0, 1, 2, 3] rfl hj152
theorem mX2_seekSets {G : gG} (s0 : St) {this : Nat} {p0 : Int32} {sE : St} {vE : Int32} (h : sX2_seekSets s0 this p0 = some (sE, vE)) : Mt G YX2_seekSets yX2_seekSets [rV (some this), iV p0] s0 (some (iV vE)) sE := by
  refine go_start (ls0 := [(0, rV (some this)), (1, iV p0)]) (by decide +kernel) rfl (fun h => by cases h) (Nat.le_of_ble_eq_true rfl) rfl ?_
  revert h
  unfold sX2_seekSets
  refine im (go_iconst (pc := 0) (Y := YX2_seekSets) (v := -1) dX2_seekSets_0 rfl) ?_
  refine im (go_istore_n (pc := 1) (Y := YX2_seekSets) (ls2 := [(2, iV (-1)), (0, rV (some this)), (1, iV p0)]) dX2_seekSets_1 rfl (Nat.le_of_ble_eq_true rfl) rfl) ?_
  refine im (go_aload_n (pc := 2) (Y := YX2_seekSets) 1 dX2_seekSets_2 rfl rfl) ?_
  refine im (go_iconst (pc := 3) (Y := YX2_seekSets) (v := 0) dX2_seekSets_3 rfl) ?_
  refine flp (go_pI (pc := 4) (Y := YX2_seekSets) fF41 (by decide) q1666 (Or.inl rfl) (Or.inl rfl) rfl rfl rfl dX2_seekSets_4) (fun s1 => ?_)
  refine im (go_aload_n (pc := 7) (Y := YX2_seekSets) 1 dX2_seekSets_7 rfl rfl) ?_
  refine im (go_iconst (pc := 8) (Y := YX2_seekSets) (v := 0) dX2_seekSets_8 rfl) ?_
  refine flp (go_pI (pc := 9) (Y := YX2_seekSets) fF42 (by decide) q1667 (Or.inl rfl) (Or.inl rfl) rfl rfl rfl dX2_seekSets_9) (fun s2 => ?_)
  refine im (go_aload_n (pc := 12) (Y := YX2_seekSets) 1 dX2_seekSets_12 rfl rfl) ?_
  refine im (go_iconst (pc := 13) (Y := YX2_seekSets) (v := 1) dX2_seekSets_13 rfl) ?_
  refine im (go_aload_n (pc := 14) (Y := YX2_seekSets) 1 dX2_seekSets_14 rfl rfl) ?_
  refine flp (go_gR (pc := 15) (Y := YX2_seekSets) fF1011 (by decide) q1648 (Or.inl rfl) dX2_seekSets_15) (fun v3 => ?_)
  refine im (go_bipush (pc := 18) (Y := YX2_seekSets) (v := 7) dX2_seekSets_18 rfl) ?_
  refine flp (go_lI1 (pc := 20) (Y := YX2_seekSets) dX2_seekSets_20) (fun v4 => ?_)
  refine im (go_ishl (pc := 21) (Y := YX2_seekSets) dX2_seekSets_21) ?_
  refine im (go_iconst (pc := 22) (Y := YX2_seekSets) (v := 1) dX2_seekSets_22 rfl) ?_
  refine im (go_isub (pc := 23) (Y := YX2_seekSets) dX2_seekSets_23) ?_
  refine flp (go_pI (pc := 24) (Y := YX2_seekSets) fF43 (by decide) q1668 (Or.inl rfl) (Or.inl rfl) rfl rfl rfl dX2_seekSets_24) (fun s5 => ?_)
  refine im (go_iconst (pc := 27) (Y := YX2_seekSets) (v := 0) dX2_seekSets_27 rfl) ?_
  refine im (go_istore_n (pc := 28) (Y := YX2_seekSets) (ls2 := [(3, iV 0), (2, iV (-1)), (0, rV (some this)), (1, iV p0)]) dX2_seekSets_28 rfl (Nat.le_of_ble_eq_true rfl) rfl) ?_
  refine bpg (fun s11 he54 h55 => ?_)
  refine go_sub [2, 3, 1, 0] rfl (sX2_seekSets_L29_go this p0 (-1) FU _ _ _ he54 ?_)
  clear he54
  revert h55
  refine im (go_iconst (pc := 47) (Y := YX2_seekSets) (v := 0) dX2_seekSets_47 rfl) ?_
  refine im (go_istore_n (pc := 48) (Y := YX2_seekSets) (ls2 := [(3, iV 0), (0, rV (some this)), (1, iV p0), (2, iV (-1))]) dX2_seekSets_48 rfl (Nat.le_of_ble_eq_true rfl) rfl) ?_
  refine b2g (fun s48 v49 he52 h53 => ?_)
  refine go_sub [1, 2, 3, 0] rfl (sX2_seekSets_L49_go this p0 FU _ _ _ _ _ he52 ?_)
  clear he52
  revert h53
  refine im (go_aload_n (pc := 158) (Y := YX2_seekSets) 0 dX2_seekSets_158 rfl rfl) ?_
  refine flp (go_gI (pc := 159) (Y := YX2_seekSets) fF41 (by decide) q1666 (Or.inl rfl) dX2_seekSets_159) (fun v50 => ?_)
  refine flp2 (go_if_ne (pc := 162) (Y := YX2_seekSets) 170 dX2_seekSets_162 (by decide)) ?_ ?_
  · refine im (go_aload_n (pc := 165) (Y := YX2_seekSets) 0 dX2_seekSets_165 rfl rfl) ?_
    refine im (go_iconst (pc := 166) (Y := YX2_seekSets) (v := 0) dX2_seekSets_166 rfl) ?_
    refine flp (go_pI (pc := 167) (Y := YX2_seekSets) fF43 (by decide) q1668 (Or.inl rfl) (Or.inl rfl) rfl rfl rfl dX2_seekSets_167) (fun s51 => ?_)
    refine im (go_iload_n (pc := 170) (Y := YX2_seekSets) 1 dX2_seekSets_170 rfl rfl) ?_
    refine e2 (fun q0 q1 => ?_)
    subst q0
    subst q1
    exact go_iret (pc := 171) (Y := YX2_seekSets) rfl dX2_seekSets_171
  · refine im (go_iload_n (pc := 170) (Y := YX2_seekSets) 1 dX2_seekSets_170 rfl rfl) ?_
    refine e2 (fun q0 q1 => ?_)
    subst q0
    subst q1
    exact go_iret (pc := 171) (Y := YX2_seekSets) rfl dX2_seekSets_171
abbrev YX2_fits : mY := (RX2, cX2_fits, 1, (Option.some .int), 7, 163, false)
theorem YOK_X2_fits : YOK yX2_fits 0 := ⟨⟨by decide +kernel, by decide +kernel⟩, by decide +kernel⟩
theorem mX2_fits {G : gG} (s0 : St) {this : Nat} {sE : St} {vE : Int32} (h : sX2_fits s0 this = some (sE, vE)) : Mt G YX2_fits yX2_fits [rV (some this)] s0 (some (iV vE)) sE := by
  refine go_start (ls0 := [(0, rV (some this))]) (by decide +kernel) rfl (fun h => by cases h) (Nat.le_of_ble_eq_true rfl) rfl ?_
  revert h
  unfold sX2_fits
  refine im (go_aload_n (pc := 0) (Y := YX2_fits) 0 dX2_fits_0 rfl rfl) ?_
  refine kdg (fun k1 => ?_)
  refine bpg (fun s2 he3 => ?_)
  refine im (go_callV (pc := 1) (Y := YX2_fits) (Yc := YX2_good) (y := yX2_good) (n := 0) (c0 := 2) (q := (RX2, TX2, 37)) this [] [] rfl rfl k1 (mX2_good s0 he3) YOK_X2_good rfl q1760 q133 q1759 qs66 q1757 (Nat.le_of_ble_eq_true rfl) (Nat.le_of_ble_eq_true rfl) (Nat.le_of_ble_eq_true rfl) dX2_fits_1 (st2 := []) rfl) ?_
  clear he3
  refine im (go_aload_n (pc := 4) (Y := YX2_fits) 0 dX2_fits_4 rfl rfl) ?_
  refine flp (go_gI (pc := 5) (Y := YX2_fits) fF31 (by decide) q1647 (Or.inl rfl) dX2_fits_5) (fun v4 => ?_)
  refine flp2 (go_if_ne (pc := 8) (Y := YX2_fits) 17 dX2_fits_8 (by decide)) ?_ ?_
  · refine im (go_aload_n (pc := 11) (Y := YX2_fits) 0 dX2_fits_11 rfl rfl) ?_
    refine im (go_iconst (pc := 12) (Y := YX2_fits) (v := 1) dX2_fits_12 rfl) ?_
    refine kdg (fun k5 => ?_)
    refine bdg (fun s6 v7 he8 => ?_)
    refine im (go_callV (pc := 13) (Y := YX2_fits) (Yc := YX2_no) (y := yX2_no) (n := 1) (c0 := 2) (q := (RX2, TX2, 37)) this [iV 1] [] rfl rfl k5 (mX2_no s2 he8) YOK_X2_no rfl q1767 q133 q1766 qs67 q1764 (Nat.le_of_ble_eq_true rfl) (Nat.le_of_ble_eq_true rfl) (Nat.le_of_ble_eq_true rfl) dX2_fits_13 (st2 := [iV v7]) rfl) ?_
    clear he8
    refine e2 (fun q0 q1 => ?_)
    subst q0
    subst q1
    exact go_iret (pc := 16) (Y := YX2_fits) rfl dX2_fits_16
  · refine im (go_aload_n (pc := 17) (Y := YX2_fits) 0 dX2_fits_17 rfl rfl) ?_
    refine im (go_iconst (pc := 18) (Y := YX2_fits) (v := -1) dX2_fits_18 rfl) ?_
    refine kdg (fun k9 => ?_)
    refine bdg (fun s10 v11 he12 => ?_)
    refine im (go_callV (pc := 19) (Y := YX2_fits) (Yc := YX2_seekSets) (y := yX2_seekSets) (n := 1) (c0 := 2) (q := (RX2, TX2, 37)) this [iV (-1)] [] rfl rfl k9 (mX2_seekSets s2 he12) YOK_X2_seekSets rfl q2144 q133 q2143 qs118 q2141 (Nat.le_of_ble_eq_true rfl) (Nat.le_of_ble_eq_true rfl) (Nat.le_of_ble_eq_true rfl) dX2_fits_19 (st2 := [iV v11]) rfl) ?_
    clear he12
    refine im (go_pop (pc := 22) (Y := YX2_fits) dX2_fits_22 rfl) ?_
    refine im (go_aload_n (pc := 23) (Y := YX2_fits) 0 dX2_fits_23 rfl rfl) ?_
    refine flp (go_gI (pc := 24) (Y := YX2_fits) fF41 (by decide) q1666 (Or.inl rfl) dX2_fits_24) (fun v13 => ?_)
    refine e2 (fun q0 q1 => ?_)
    subst q0
    subst q1
    exact go_iret (pc := 27) (Y := YX2_fits) rfl dX2_fits_27
abbrev YX2_fitAt : mY := (RX2, cX2_fitAt, 3, (Option.some .int), 7, 163, false)
theorem YOK_X2_fitAt : YOK yX2_fitAt 1 := ⟨⟨by decide +kernel, by decide +kernel⟩, by decide +kernel⟩
theorem mX2_fitAt {G : gG} (s0 : St) {this : Nat} {p0 : Int32} {sE : St} {vE : Int32} (h : sX2_fitAt s0 this p0 = some (sE, vE)) : Mt G YX2_fitAt yX2_fitAt [rV (some this), iV p0] s0 (some (iV vE)) sE := by
  refine go_start (ls0 := [(0, rV (some this)), (1, iV p0)]) (by decide +kernel) rfl (fun h => by cases h) (Nat.le_of_ble_eq_true rfl) rfl ?_
  revert h
  unfold sX2_fitAt
  refine im (go_aload_n (pc := 0) (Y := YX2_fitAt) 0 dX2_fitAt_0 rfl rfl) ?_
  refine kdg (fun k1 => ?_)
  refine bpg (fun s2 he3 => ?_)
  refine im (go_callV (pc := 1) (Y := YX2_fitAt) (Yc := YX2_good) (y := yX2_good) (n := 0) (c0 := 2) (q := (RX2, TX2, 37)) this [] [] rfl rfl k1 (mX2_good s0 he3) YOK_X2_good rfl q1760 q133 q1759 qs66 q1757 (Nat.le_of_ble_eq_true rfl) (Nat.le_of_ble_eq_true rfl) (Nat.le_of_ble_eq_true rfl) dX2_fitAt_1 (st2 := []) rfl) ?_
  clear he3
  refine im (go_aload_n (pc := 4) (Y := YX2_fitAt) 0 dX2_fitAt_4 rfl rfl) ?_
  refine flp (go_gI (pc := 5) (Y := YX2_fitAt) fF31 (by decide) q1647 (Or.inl rfl) dX2_fitAt_5) (fun v4 => ?_)
  refine flp2 (go_if_eq (pc := 8) (Y := YX2_fitAt) 15 dX2_fitAt_8 (by decide)) ?_ ?_
  · refine im (go_aload_n (pc := 15) (Y := YX2_fitAt) 0 dX2_fitAt_15 rfl rfl) ?_
    refine im (go_iconst (pc := 16) (Y := YX2_fitAt) (v := 1) dX2_fitAt_16 rfl) ?_
    refine kdg (fun k5 => ?_)
    refine bdg (fun s6 v7 he8 => ?_)
    refine im (go_callV (pc := 17) (Y := YX2_fitAt) (Yc := YX2_no) (y := yX2_no) (n := 1) (c0 := 2) (q := (RX2, TX2, 37)) this [iV 1] [] rfl rfl k5 (mX2_no s2 he8) YOK_X2_no rfl q1767 q133 q1766 qs67 q1764 (Nat.le_of_ble_eq_true rfl) (Nat.le_of_ble_eq_true rfl) (Nat.le_of_ble_eq_true rfl) dX2_fitAt_17 (st2 := [iV v7]) rfl) ?_
    clear he8
    refine e2 (fun q0 q1 => ?_)
    subst q0
    subst q1
    exact go_iret (pc := 20) (Y := YX2_fitAt) rfl dX2_fitAt_20
  · refine im (go_iload_n (pc := 11) (Y := YX2_fitAt) 1 dX2_fitAt_11 rfl rfl) ?_
    refine flp2 (go_if_ge (pc := 12) (Y := YX2_fitAt) 21 dX2_fitAt_12 (by decide)) ?_ ?_
    · refine im (go_aload_n (pc := 21) (Y := YX2_fitAt) 0 dX2_fitAt_21 rfl rfl) ?_
      refine im (go_iload_n (pc := 22) (Y := YX2_fitAt) 1 dX2_fitAt_22 rfl rfl) ?_
      refine kdg (fun k9 => ?_)
      refine bdg (fun s10 v11 he12 => ?_)
      refine im (go_callV (pc := 23) (Y := YX2_fitAt) (Yc := YX2_seekSets) (y := yX2_seekSets) (n := 1) (c0 := 2) (q := (RX2, TX2, 37)) this [iV p0] [] rfl rfl k9 (mX2_seekSets s2 he12) YOK_X2_seekSets rfl q2144 q133 q2143 qs118 q2141 (Nat.le_of_ble_eq_true rfl) (Nat.le_of_ble_eq_true rfl) (Nat.le_of_ble_eq_true rfl) dX2_fitAt_23 (st2 := [iV v11]) rfl) ?_
      clear he12
      refine im (go_istore_n (pc := 26) (Y := YX2_fitAt) (ls2 := [(2, iV v11), (0, rV (some this)), (1, iV p0)]) dX2_fitAt_26 rfl (Nat.le_of_ble_eq_true rfl) rfl) ?_
      refine im (go_iload_n (pc := 27) (Y := YX2_fitAt) 0 dX2_fitAt_27 rfl rfl) ?_
      refine flp2 (go_if_ge (pc := 28) (Y := YX2_fitAt) 39 dX2_fitAt_28 (by decide)) ?_ ?_
      · refine im (go_iload_n (pc := 39) (Y := YX2_fitAt) 0 dX2_fitAt_39 rfl rfl) ?_
        refine e2 (fun q0 q1 => ?_)
        subst q0
        subst q1
        exact go_iret (pc := 40) (Y := YX2_fitAt) rfl dX2_fitAt_40
      · refine im (go_aload_n (pc := 31) (Y := YX2_fitAt) 1 dX2_fitAt_31 rfl rfl) ?_
        refine im (go_iconst (pc := 32) (Y := YX2_fitAt) (v := 1) dX2_fitAt_32 rfl) ?_
        refine kdg (fun k13 => ?_)
        refine bdg (fun s14 v15 he16 => ?_)
        refine im (go_callV (pc := 33) (Y := YX2_fitAt) (Yc := YX2_no) (y := yX2_no) (n := 1) (c0 := 2) (q := (RX2, TX2, 37)) this [iV 1] [] rfl rfl k13 (mX2_no s10 he16) YOK_X2_no rfl q1767 q133 q1766 qs67 q1764 (Nat.le_of_ble_eq_true rfl) (Nat.le_of_ble_eq_true rfl) (Nat.le_of_ble_eq_true rfl) dX2_fitAt_33 (st2 := [iV v15]) rfl) ?_
        clear he16
        refine im (go_goto (pc := 36) (Y := YX2_fitAt) 40 dX2_fitAt_36 (by decide)) ?_
        refine e2 (fun q0 q1 => ?_)
        subst q0
        subst q1
        exact go_iret (pc := 40) (Y := YX2_fitAt) rfl dX2_fitAt_40
    · refine im (go_aload_n (pc := 15) (Y := YX2_fitAt) 0 dX2_fitAt_15 rfl rfl) ?_
      refine im (go_iconst (pc := 16) (Y := YX2_fitAt) (v := 1) dX2_fitAt_16 rfl) ?_
      refine kdg (fun k17 => ?_)
      refine bdg (fun s18 v19 he20 => ?_)
      refine im (go_callV (pc := 17) (Y := YX2_fitAt) (Yc := YX2_no) (y := yX2_no) (n := 1) (c0 := 2) (q := (RX2, TX2, 37)) this [iV 1] [] rfl rfl k17 (mX2_no s2 he20) YOK_X2_no rfl q1767 q133 q1766 qs67 q1764 (Nat.le_of_ble_eq_true rfl) (Nat.le_of_ble_eq_true rfl) (Nat.le_of_ble_eq_true rfl) dX2_fitAt_17 (st2 := [iV v19]) rfl) ?_
      clear he20
      refine e2 (fun q0 q1 => ?_)
      subst q0
      subst q1
      exact go_iret (pc := 20) (Y := YX2_fitAt) rfl dX2_fitAt_20
abbrev YX2_could : mY := (RX2, cX2_could, 1, (Option.some .int), 7, 163, false)
theorem YOK_X2_could : YOK yX2_could 0 := ⟨⟨by decide +kernel, by decide +kernel⟩, by decide +kernel⟩
theorem mX2_could {G : gG} (s0 : St) {this : Nat} {sE : St} {vE : Int32} (h : sX2_could s0 this = some (sE, vE)) : Mt G YX2_could yX2_could [rV (some this)] s0 (some (iV vE)) sE := by
  refine go_start (ls0 := [(0, rV (some this))]) (by decide +kernel) rfl (fun h => by cases h) (Nat.le_of_ble_eq_true rfl) rfl ?_
  revert h
  unfold sX2_could
  refine im (go_aload_n (pc := 0) (Y := YX2_could) 0 dX2_could_0 rfl rfl) ?_
  refine kdg (fun k1 => ?_)
  refine bpg (fun s2 he3 => ?_)
  refine im (go_callV (pc := 1) (Y := YX2_could) (Yc := YX2_good) (y := yX2_good) (n := 0) (c0 := 2) (q := (RX2, TX2, 37)) this [] [] rfl rfl k1 (mX2_good s0 he3) YOK_X2_good rfl q1760 q133 q1759 qs66 q1757 (Nat.le_of_ble_eq_true rfl) (Nat.le_of_ble_eq_true rfl) (Nat.le_of_ble_eq_true rfl) dX2_could_1 (st2 := []) rfl) ?_
  clear he3
  refine im (go_aload_n (pc := 4) (Y := YX2_could) 0 dX2_could_4 rfl rfl) ?_
  refine flp (go_gI (pc := 5) (Y := YX2_could) fF31 (by decide) q1647 (Or.inl rfl) dX2_could_5) (fun v4 => ?_)
  refine flp2 (go_if_ne (pc := 8) (Y := YX2_could) 17 dX2_could_8 (by decide)) ?_ ?_
  · refine im (go_aload_n (pc := 11) (Y := YX2_could) 0 dX2_could_11 rfl rfl) ?_
    refine im (go_iconst (pc := 12) (Y := YX2_could) (v := 1) dX2_could_12 rfl) ?_
    refine kdg (fun k5 => ?_)
    refine bdg (fun s6 v7 he8 => ?_)
    refine im (go_callV (pc := 13) (Y := YX2_could) (Yc := YX2_no) (y := yX2_no) (n := 1) (c0 := 2) (q := (RX2, TX2, 37)) this [iV 1] [] rfl rfl k5 (mX2_no s2 he8) YOK_X2_no rfl q1767 q133 q1766 qs67 q1764 (Nat.le_of_ble_eq_true rfl) (Nat.le_of_ble_eq_true rfl) (Nat.le_of_ble_eq_true rfl) dX2_could_13 (st2 := [iV v7]) rfl) ?_
    clear he8
    refine e2 (fun q0 q1 => ?_)
    subst q0
    subst q1
    exact go_iret (pc := 16) (Y := YX2_could) rfl dX2_could_16
  · refine im (go_aload_n (pc := 17) (Y := YX2_could) 0 dX2_could_17 rfl rfl) ?_
    refine im (go_iconst (pc := 18) (Y := YX2_could) (v := -1) dX2_could_18 rfl) ?_
    refine kdg (fun k9 => ?_)
    refine bdg (fun s10 v11 he12 => ?_)
    refine im (go_callV (pc := 19) (Y := YX2_could) (Yc := YX2_seekSets) (y := yX2_seekSets) (n := 1) (c0 := 2) (q := (RX2, TX2, 37)) this [iV (-1)] [] rfl rfl k9 (mX2_seekSets s2 he12) YOK_X2_seekSets rfl q2144 q133 q2143 qs118 q2141 (Nat.le_of_ble_eq_true rfl) (Nat.le_of_ble_eq_true rfl) (Nat.le_of_ble_eq_true rfl) dX2_could_19 (st2 := [iV v11]) rfl) ?_
    clear he12
    refine im (go_pop (pc := 22) (Y := YX2_could) dX2_could_22 rfl) ?_
    refine im (go_aload_n (pc := 23) (Y := YX2_could) 0 dX2_could_23 rfl rfl) ?_
    refine flp (go_gI (pc := 24) (Y := YX2_could) fF42 (by decide) q1667 (Or.inl rfl) dX2_could_24) (fun v13 => ?_)
    refine e2 (fun q0 q1 => ?_)
    subst q0
    subst q1
    exact go_iret (pc := 27) (Y := YX2_could) rfl dX2_could_27
abbrev YX2_surely : mY := (RX2, cX2_surely, 1, (Option.some .int), 7, 163, false)
theorem YOK_X2_surely : YOK yX2_surely 0 := ⟨⟨by decide +kernel, by decide +kernel⟩, by decide +kernel⟩
theorem mX2_surely {G : gG} (s0 : St) {this : Nat} {sE : St} {vE : Int32} (h : sX2_surely s0 this = some (sE, vE)) : Mt G YX2_surely yX2_surely [rV (some this)] s0 (some (iV vE)) sE := by
  refine go_start (ls0 := [(0, rV (some this))]) (by decide +kernel) rfl (fun h => by cases h) (Nat.le_of_ble_eq_true rfl) rfl ?_
  revert h
  unfold sX2_surely
  refine im (go_aload_n (pc := 0) (Y := YX2_surely) 0 dX2_surely_0 rfl rfl) ?_
  refine kdg (fun k1 => ?_)
  refine bpg (fun s2 he3 => ?_)
  refine im (go_callV (pc := 1) (Y := YX2_surely) (Yc := YX2_good) (y := yX2_good) (n := 0) (c0 := 2) (q := (RX2, TX2, 37)) this [] [] rfl rfl k1 (mX2_good s0 he3) YOK_X2_good rfl q1760 q133 q1759 qs66 q1757 (Nat.le_of_ble_eq_true rfl) (Nat.le_of_ble_eq_true rfl) (Nat.le_of_ble_eq_true rfl) dX2_surely_1 (st2 := []) rfl) ?_
  clear he3
  refine im (go_aload_n (pc := 4) (Y := YX2_surely) 0 dX2_surely_4 rfl rfl) ?_
  refine flp (go_gI (pc := 5) (Y := YX2_surely) fF31 (by decide) q1647 (Or.inl rfl) dX2_surely_5) (fun v4 => ?_)
  refine flp2 (go_if_ne (pc := 8) (Y := YX2_surely) 17 dX2_surely_8 (by decide)) ?_ ?_
  · refine im (go_aload_n (pc := 11) (Y := YX2_surely) 0 dX2_surely_11 rfl rfl) ?_
    refine im (go_iconst (pc := 12) (Y := YX2_surely) (v := 1) dX2_surely_12 rfl) ?_
    refine kdg (fun k5 => ?_)
    refine bdg (fun s6 v7 he8 => ?_)
    refine im (go_callV (pc := 13) (Y := YX2_surely) (Yc := YX2_no) (y := yX2_no) (n := 1) (c0 := 2) (q := (RX2, TX2, 37)) this [iV 1] [] rfl rfl k5 (mX2_no s2 he8) YOK_X2_no rfl q1767 q133 q1766 qs67 q1764 (Nat.le_of_ble_eq_true rfl) (Nat.le_of_ble_eq_true rfl) (Nat.le_of_ble_eq_true rfl) dX2_surely_13 (st2 := [iV v7]) rfl) ?_
    clear he8
    refine e2 (fun q0 q1 => ?_)
    subst q0
    subst q1
    exact go_iret (pc := 16) (Y := YX2_surely) rfl dX2_surely_16
  · refine im (go_aload_n (pc := 17) (Y := YX2_surely) 0 dX2_surely_17 rfl rfl) ?_
    refine im (go_iconst (pc := 18) (Y := YX2_surely) (v := -1) dX2_surely_18 rfl) ?_
    refine kdg (fun k9 => ?_)
    refine bdg (fun s10 v11 he12 => ?_)
    refine im (go_callV (pc := 19) (Y := YX2_surely) (Yc := YX2_seekSets) (y := yX2_seekSets) (n := 1) (c0 := 2) (q := (RX2, TX2, 37)) this [iV (-1)] [] rfl rfl k9 (mX2_seekSets s2 he12) YOK_X2_seekSets rfl q2144 q133 q2143 qs118 q2141 (Nat.le_of_ble_eq_true rfl) (Nat.le_of_ble_eq_true rfl) (Nat.le_of_ble_eq_true rfl) dX2_surely_19 (st2 := [iV v11]) rfl) ?_
    clear he12
    refine im (go_pop (pc := 22) (Y := YX2_surely) dX2_surely_22 rfl) ?_
    refine im (go_aload_n (pc := 23) (Y := YX2_surely) 0 dX2_surely_23 rfl rfl) ?_
    refine flp (go_gI (pc := 24) (Y := YX2_surely) fF43 (by decide) q1668 (Or.inl rfl) dX2_surely_24) (fun v13 => ?_)
    refine e2 (fun q0 q1 => ?_)
    subst q0
    subst q1
    exact go_iret (pc := 27) (Y := YX2_surely) rfl dX2_surely_27
abbrev YX2_leavesOf : mY := (RX2, cX2_leavesOf, 2, (Option.some .int), 0, 0, false)
theorem YOK_X2_leavesOf : YOK yX2_leavesOf 1 := ⟨⟨by decide +kernel, by decide +kernel⟩, by decide +kernel⟩
theorem mX2_leavesOf {G : gG} (s0 : St) {this : Nat} {p0 : Int32} {vE : Int32} (h : sX2_leavesOf s0 this p0 = some vE) : Mt G YX2_leavesOf yX2_leavesOf [rV (some this), iV p0] s0 (some (iV vE)) s0 := by
  refine go_start (ls0 := [(0, rV (some this)), (1, iV p0)]) (by decide +kernel) rfl (fun h => by cases h) (Nat.le_of_ble_eq_true rfl) rfl ?_
  revert h
  unfold sX2_leavesOf
  refine im (go_aload_n (pc := 0) (Y := YX2_leavesOf) 0 dX2_leavesOf_0 rfl rfl) ?_
  refine flp (go_gR (pc := 1) (Y := YX2_leavesOf) fF1019 (by decide) q1665 (Or.inl rfl) dX2_leavesOf_1) (fun v1 => ?_)
  refine im (go_iload_n (pc := 4) (Y := YX2_leavesOf) 1 dX2_leavesOf_4 rfl rfl) ?_
  refine flp (go_lI1 (pc := 5) (Y := YX2_leavesOf) dX2_leavesOf_5) (fun v2 => ?_)
  refine im (go_aload_n (pc := 6) (Y := YX2_leavesOf) 0 dX2_leavesOf_6 rfl rfl) ?_
  refine flp (go_gI (pc := 7) (Y := YX2_leavesOf) fF41 (by decide) q1666 (Or.inl rfl) dX2_leavesOf_7) (fun v3 => ?_)
  refine im (go_aload_n (pc := 10) (Y := YX2_leavesOf) 0 dX2_leavesOf_10 rfl rfl) ?_
  refine flp (go_gR (pc := 11) (Y := YX2_leavesOf) fF1019 (by decide) q1665 (Or.inl rfl) dX2_leavesOf_11) (fun v4 => ?_)
  refine im (go_iload_n (pc := 14) (Y := YX2_leavesOf) 1 dX2_leavesOf_14 rfl rfl) ?_
  refine flp (go_lI1 (pc := 15) (Y := YX2_leavesOf) dX2_leavesOf_15) (fun v5 => ?_)
  refine im (go_isub (pc := 16) (Y := YX2_leavesOf) dX2_leavesOf_16) ?_
  refine flp2 (go_icmp_le (pc := 17) (Y := YX2_leavesOf) 29 dX2_leavesOf_17 (by decide)) ?_ ?_
  · refine im (go_aload_n (pc := 29) (Y := YX2_leavesOf) 0 dX2_leavesOf_29 rfl rfl) ?_
    refine flp (go_gI (pc := 30) (Y := YX2_leavesOf) fF41 (by decide) q1666 (Or.inl rfl) dX2_leavesOf_30) (fun v6 => ?_)
    refine im (go_aload_n (pc := 33) (Y := YX2_leavesOf) 0 dX2_leavesOf_33 rfl rfl) ?_
    refine flp (go_gR (pc := 34) (Y := YX2_leavesOf) fF1019 (by decide) q1665 (Or.inl rfl) dX2_leavesOf_34) (fun v7 => ?_)
    refine im (go_iload_n (pc := 37) (Y := YX2_leavesOf) 1 dX2_leavesOf_37 rfl rfl) ?_
    refine flp (go_lI1 (pc := 38) (Y := YX2_leavesOf) dX2_leavesOf_38) (fun v8 => ?_)
    refine im (go_isub (pc := 39) (Y := YX2_leavesOf) dX2_leavesOf_39) ?_
    refine e1 (fun q0 => ?_)
    subst q0
    exact go_iret (pc := 40) (Y := YX2_leavesOf) rfl dX2_leavesOf_40
  · refine im (go_aload_n (pc := 20) (Y := YX2_leavesOf) 0 dX2_leavesOf_20 rfl rfl) ?_
    refine flp (go_gR (pc := 21) (Y := YX2_leavesOf) fF1019 (by decide) q1665 (Or.inl rfl) dX2_leavesOf_21) (fun v9 => ?_)
    refine im (go_iload_n (pc := 24) (Y := YX2_leavesOf) 1 dX2_leavesOf_24 rfl rfl) ?_
    refine flp (go_lI1 (pc := 25) (Y := YX2_leavesOf) dX2_leavesOf_25) (fun v10 => ?_)
    refine im (go_goto (pc := 26) (Y := YX2_leavesOf) 40 dX2_leavesOf_26 (by decide)) ?_
    refine e1 (fun q0 => ?_)
    subst q0
    exact go_iret (pc := 40) (Y := YX2_leavesOf) rfl dX2_leavesOf_40
abbrev YX2_askOf : mY := (RX2, cX2_askOf, 3, (Option.some .int), 7, 163, false)
theorem YOK_X2_askOf : YOK yX2_askOf 0 := ⟨⟨by decide +kernel, by decide +kernel⟩, by decide +kernel⟩
theorem sX2_askOf_L11_go {G : gG} {s0 sE : St} {rE : Option V3} (s5 : St) (this : Nat) : ∀ (n : Nat) (v6 : Int32) (v7 : Int32) (v8 : Int32), sX2_askOf_L11 s5 this n v6 v7 = some v8 → Go G YX2_askOf s0 sE rE 54 [(1, iV v8)] [] s5 → Go G YX2_askOf s0 sE rE 11 [(0, rV (some this)), (1, iV v6), (2, iV v7)] [] s5 := by
  intro n
  induction n with
  | zero => intro v6 v7 v8 h hx; rw [sX2_askOf_L11] at h; cases h
  | succ n ih =>
    intro v6 v7 v8 h hx
    revert h
    rw [sX2_askOf_L11]
    refine im (go_iload_n (pc := 11) (Y := YX2_askOf) 2 dX2_askOf_11 rfl rfl) ?_
    refine im (go_aload_n (pc := 12) (Y := YX2_askOf) 0 dX2_askOf_12 rfl rfl) ?_
    refine flp (go_gR (pc := 13) (Y := YX2_askOf) fF1011 (by decide) q1648 (Or.inl rfl) dX2_askOf_13) (fun v9 => ?_)
    refine im (go_bipush (pc := 16) (Y := YX2_askOf) (v := 7) dX2_askOf_16 rfl) ?_
    refine flp (go_lI1 (pc := 18) (Y := YX2_askOf) dX2_askOf_18) (fun v10 => ?_)
    refine flp2 (go_icmp_ge (pc := 19) (Y := YX2_askOf) 54 dX2_askOf_19 (by decide)) ?_ ?_
    · refine e1 (fun q0 => ?_)
      subst q0
      exact go_sub [1] rfl hx
    · refine im (go_aload_n (pc := 22) (Y := YX2_askOf) 0 dX2_askOf_22 rfl rfl) ?_
      refine flp (go_gI (pc := 23) (Y := YX2_askOf) fF41 (by decide) q1666 (Or.inl rfl) dX2_askOf_23) (fun v11 => ?_)
      refine flp2 (go_if_le (pc := 26) (Y := YX2_askOf) 54 dX2_askOf_26 (by decide)) ?_ ?_
      · refine e1 (fun q0 => ?_)
        subst q0
        exact go_sub [1] rfl hx
      · refine im (go_iload_n (pc := 29) (Y := YX2_askOf) 1 dX2_askOf_29 rfl rfl) ?_
        refine bpg (fun v12 he19 h20 => ?_)
        have hj48 : Go G YX2_askOf s0 sE rE 48 [(0, rV (some this)), (1, iV v12), (2, iV v7)] [] s5 := by
          clear he19
          revert h20
          refine im (go_iinc (pc := 48) (Y := YX2_askOf) 2 (v := (v7 + 1)) (ls2 := [(2, iV (v7 + 1)), (0, rV (some this)), (1, iV v12)]) dX2_askOf_48 rfl rfl (Nat.le_of_ble_eq_true rfl) rfl) ?_
          refine im (go_goto (pc := 51) (Y := YX2_askOf) 11 dX2_askOf_51 (by decide)) ?_
          exact fun hq => go_sub [1, 2, 0] rfl (ih _ _ _ hq hx)
        clear h20
        revert he19
        refine flp2 (go_if_lt (pc := 30) (Y := YX2_askOf) 46 dX2_askOf_30 (by decide)) ?_ ?_
        · refine im (go_iload_n (pc := 46) (Y := YX2_askOf) 2 dX2_askOf_46 rfl rfl) ?_
          refine im (go_istore_n (pc := 47) (Y := YX2_askOf) (ls2 := [(1, iV v7), (0, rV (some this)), (2, iV v7)]) dX2_askOf_47 rfl (Nat.le_of_ble_eq_true rfl) rfl) ?_
          refine e1 (fun q0 => ?_)
          subst q0
          exact go_sub [1, 0, 2] rfl hj48
        · refine im (go_aload_n (pc := 33) (Y := YX2_askOf) 0 dX2_askOf_33 rfl rfl) ?_
          refine im (go_iload_n (pc := 34) (Y := YX2_askOf) 2 dX2_askOf_34 rfl rfl) ?_
          refine kdg (fun k13 => ?_)
          refine bpg (fun v14 he15 => ?_)
          refine im (go_callV (pc := 35) (Y := YX2_askOf) (Yc := YX2_leavesOf) (y := yX2_leavesOf) (n := 1) (c0 := 2) (q := (RX2, TX2, 37)) this [iV v7] [] rfl rfl k13 (mX2_leavesOf s5 he15) YOK_X2_leavesOf rfl q2172 q133 q2171 qs121 q2169 (Nat.le_of_ble_eq_true rfl) (Nat.le_of_ble_eq_true rfl) (Nat.le_of_ble_eq_true rfl) dX2_askOf_35 (st2 := [iV v14]) rfl) ?_
          clear he15
          refine im (go_aload_n (pc := 38) (Y := YX2_askOf) 0 dX2_askOf_38 rfl rfl) ?_
          refine im (go_iload_n (pc := 39) (Y := YX2_askOf) 1 dX2_askOf_39 rfl rfl) ?_
          refine kdg (fun k16 => ?_)
          refine bpg (fun v17 he18 => ?_)
          refine im (go_callV (pc := 40) (Y := YX2_askOf) (Yc := YX2_leavesOf) (y := yX2_leavesOf) (n := 1) (c0 := 2) (q := (RX2, TX2, 37)) this [iV v6] [iV v14] rfl rfl k16 (mX2_leavesOf s5 he18) YOK_X2_leavesOf rfl q2172 q133 q2171 qs121 q2169 (Nat.le_of_ble_eq_true rfl) (Nat.le_of_ble_eq_true rfl) (Nat.le_of_ble_eq_true rfl) dX2_askOf_40 (st2 := [iV v17, iV v14]) rfl) ?_
          clear he18
          refine flp2 (go_icmp_ge (pc := 43) (Y := YX2_askOf) 48 dX2_askOf_43 (by decide)) ?_ ?_
          · refine e1 (fun q0 => ?_)
            subst q0
            exact go_sub [0, 1, 2] rfl hj48
          · refine im (go_iload_n (pc := 46) (Y := YX2_askOf) 2 dX2_askOf_46 rfl rfl) ?_
            refine im (go_istore_n (pc := 47) (Y := YX2_askOf) (ls2 := [(1, iV v7), (0, rV (some this)), (2, iV v7)]) dX2_askOf_47 rfl (Nat.le_of_ble_eq_true rfl) rfl) ?_
            refine e1 (fun q0 => ?_)
            subst q0
            exact go_sub [1, 0, 2] rfl hj48
theorem mX2_askOf {G : gG} (s0 : St) {this : Nat} {sE : St} {vE : Int32} (h : sX2_askOf s0 this = some (sE, vE)) : Mt G YX2_askOf yX2_askOf [rV (some this)] s0 (some (iV vE)) sE := by
  refine go_start (ls0 := [(0, rV (some this))]) (by decide +kernel) rfl (fun h => by cases h) (Nat.le_of_ble_eq_true rfl) rfl ?_
  revert h
  unfold sX2_askOf
  refine im (go_aload_n (pc := 0) (Y := YX2_askOf) 0 dX2_askOf_0 rfl rfl) ?_
  refine im (go_iconst (pc := 1) (Y := YX2_askOf) (v := -1) dX2_askOf_1 rfl) ?_
  refine kdg (fun k1 => ?_)
  refine bdg (fun s2 v3 he4 => ?_)
  refine im (go_callV (pc := 2) (Y := YX2_askOf) (Yc := YX2_seekSets) (y := yX2_seekSets) (n := 1) (c0 := 2) (q := (RX2, TX2, 37)) this [iV (-1)] [] rfl rfl k1 (mX2_seekSets s0 he4) YOK_X2_seekSets rfl q2144 q133 q2143 qs118 q2141 (Nat.le_of_ble_eq_true rfl) (Nat.le_of_ble_eq_true rfl) (Nat.le_of_ble_eq_true rfl) dX2_askOf_2 (st2 := [iV v3]) rfl) ?_
  clear he4
  refine im (go_pop (pc := 5) (Y := YX2_askOf) dX2_askOf_5 rfl) ?_
  refine im (go_bipush (pc := 6) (Y := YX2_askOf) (v := -2) dX2_askOf_6 rfl) ?_
  refine im (go_istore_n (pc := 8) (Y := YX2_askOf) (ls2 := [(1, iV (-2)), (0, rV (some this))]) dX2_askOf_8 rfl (Nat.le_of_ble_eq_true rfl) rfl) ?_
  refine im (go_iconst (pc := 9) (Y := YX2_askOf) (v := 0) dX2_askOf_9 rfl) ?_
  refine im (go_istore_n (pc := 10) (Y := YX2_askOf) (ls2 := [(2, iV 0), (1, iV (-2)), (0, rV (some this))]) dX2_askOf_10 rfl (Nat.le_of_ble_eq_true rfl) rfl) ?_
  refine bpg (fun v21 he22 h23 => ?_)
  refine go_sub [2, 1, 0] rfl (sX2_askOf_L11_go s2 this FU _ _ _ he22 ?_)
  clear he22
  revert h23
  refine im (go_iload_n (pc := 54) (Y := YX2_askOf) 0 dX2_askOf_54 rfl rfl) ?_
  refine e2 (fun q0 q1 => ?_)
  subst q0
  subst q1
  exact go_iret (pc := 55) (Y := YX2_askOf) rfl dX2_askOf_55
abbrev YX2_ask : mY := (RX2, cX2_ask, 1, (Option.some .int), 8, 185, false)
theorem YOK_X2_ask : YOK yX2_ask 0 := ⟨⟨by decide +kernel, by decide +kernel⟩, by decide +kernel⟩
theorem mX2_ask {G : gG} (s0 : St) {this : Nat} {sE : St} {vE : Int32} (h : sX2_ask s0 this = some (sE, vE)) : Mt G YX2_ask yX2_ask [rV (some this)] s0 (some (iV vE)) sE := by
  refine go_start (ls0 := [(0, rV (some this))]) (by decide +kernel) rfl (fun h => by cases h) (Nat.le_of_ble_eq_true rfl) rfl ?_
  revert h
  unfold sX2_ask
  refine im (go_aload_n (pc := 0) (Y := YX2_ask) 0 dX2_ask_0 rfl rfl) ?_
  refine kdg (fun k1 => ?_)
  refine bpg (fun s2 he3 => ?_)
  refine im (go_callV (pc := 1) (Y := YX2_ask) (Yc := YX2_good) (y := yX2_good) (n := 0) (c0 := 2) (q := (RX2, TX2, 37)) this [] [] rfl rfl k1 (mX2_good s0 he3) YOK_X2_good rfl q1760 q133 q1759 qs66 q1757 (Nat.le_of_ble_eq_true rfl) (Nat.le_of_ble_eq_true rfl) (Nat.le_of_ble_eq_true rfl) dX2_ask_1 (st2 := []) rfl) ?_
  clear he3
  refine im (go_aload_n (pc := 4) (Y := YX2_ask) 0 dX2_ask_4 rfl rfl) ?_
  refine flp (go_gI (pc := 5) (Y := YX2_ask) fF31 (by decide) q1647 (Or.inl rfl) dX2_ask_5) (fun v4 => ?_)
  refine flp2 (go_if_eq (pc := 8) (Y := YX2_ask) 18 dX2_ask_8 (by decide)) ?_ ?_
  · refine im (go_aload_n (pc := 18) (Y := YX2_ask) 0 dX2_ask_18 rfl rfl) ?_
    refine im (go_iconst (pc := 19) (Y := YX2_ask) (v := 1) dX2_ask_19 rfl) ?_
    refine kdg (fun k5 => ?_)
    refine bdg (fun s6 v7 he8 => ?_)
    refine im (go_callV (pc := 20) (Y := YX2_ask) (Yc := YX2_no) (y := yX2_no) (n := 1) (c0 := 2) (q := (RX2, TX2, 37)) this [iV 1] [] rfl rfl k5 (mX2_no s2 he8) YOK_X2_no rfl q1767 q133 q1766 qs67 q1764 (Nat.le_of_ble_eq_true rfl) (Nat.le_of_ble_eq_true rfl) (Nat.le_of_ble_eq_true rfl) dX2_ask_20 (st2 := [iV v7]) rfl) ?_
    clear he8
    refine e2 (fun q0 q1 => ?_)
    subst q0
    subst q1
    exact go_iret (pc := 23) (Y := YX2_ask) rfl dX2_ask_23
  · refine im (go_aload_n (pc := 11) (Y := YX2_ask) 0 dX2_ask_11 rfl rfl) ?_
    refine kdg (fun k9 => ?_)
    refine bdg (fun s10 v11 he12 => ?_)
    refine im (go_callV (pc := 12) (Y := YX2_ask) (Yc := YX2_askOf) (y := yX2_askOf) (n := 0) (c0 := 2) (q := (RX2, TX2, 37)) this [] [] rfl rfl k9 (mX2_askOf s2 he12) YOK_X2_askOf rfl q2168 q133 q2167 qs120 q2165 (Nat.le_of_ble_eq_true rfl) (Nat.le_of_ble_eq_true rfl) (Nat.le_of_ble_eq_true rfl) dX2_ask_12 (st2 := [iV v11]) rfl) ?_
    clear he12
    refine im (go_goto (pc := 15) (Y := YX2_ask) 23 dX2_ask_15 (by decide)) ?_
    refine e2 (fun q0 q1 => ?_)
    subst q0
    subst q1
    exact go_iret (pc := 23) (Y := YX2_ask) rfl dX2_ask_23
abbrev YX2_askLeaves : mY := (RX2, cX2_askLeaves, 2, (Option.some .int), 8, 185, false)
theorem YOK_X2_askLeaves : YOK yX2_askLeaves 0 := ⟨⟨by decide +kernel, by decide +kernel⟩, by decide +kernel⟩
theorem mX2_askLeaves {G : gG} (s0 : St) {this : Nat} {sE : St} {vE : Int32} (h : sX2_askLeaves s0 this = some (sE, vE)) : Mt G YX2_askLeaves yX2_askLeaves [rV (some this)] s0 (some (iV vE)) sE := by
  refine go_start (ls0 := [(0, rV (some this))]) (by decide +kernel) rfl (fun h => by cases h) (Nat.le_of_ble_eq_true rfl) rfl ?_
  revert h
  unfold sX2_askLeaves
  refine im (go_aload_n (pc := 0) (Y := YX2_askLeaves) 0 dX2_askLeaves_0 rfl rfl) ?_
  refine kdg (fun k1 => ?_)
  refine bpg (fun s2 he3 => ?_)
  refine im (go_callV (pc := 1) (Y := YX2_askLeaves) (Yc := YX2_good) (y := yX2_good) (n := 0) (c0 := 2) (q := (RX2, TX2, 37)) this [] [] rfl rfl k1 (mX2_good s0 he3) YOK_X2_good rfl q1760 q133 q1759 qs66 q1757 (Nat.le_of_ble_eq_true rfl) (Nat.le_of_ble_eq_true rfl) (Nat.le_of_ble_eq_true rfl) dX2_askLeaves_1 (st2 := []) rfl) ?_
  clear he3
  refine im (go_aload_n (pc := 4) (Y := YX2_askLeaves) 0 dX2_askLeaves_4 rfl rfl) ?_
  refine flp (go_gI (pc := 5) (Y := YX2_askLeaves) fF31 (by decide) q1647 (Or.inl rfl) dX2_askLeaves_5) (fun v4 => ?_)
  refine flp2 (go_if_ne (pc := 8) (Y := YX2_askLeaves) 17 dX2_askLeaves_8 (by decide)) ?_ ?_
  · refine im (go_aload_n (pc := 11) (Y := YX2_askLeaves) 0 dX2_askLeaves_11 rfl rfl) ?_
    refine im (go_iconst (pc := 12) (Y := YX2_askLeaves) (v := 1) dX2_askLeaves_12 rfl) ?_
    refine kdg (fun k5 => ?_)
    refine bdg (fun s6 v7 he8 => ?_)
    refine im (go_callV (pc := 13) (Y := YX2_askLeaves) (Yc := YX2_no) (y := yX2_no) (n := 1) (c0 := 2) (q := (RX2, TX2, 37)) this [iV 1] [] rfl rfl k5 (mX2_no s2 he8) YOK_X2_no rfl q1767 q133 q1766 qs67 q1764 (Nat.le_of_ble_eq_true rfl) (Nat.le_of_ble_eq_true rfl) (Nat.le_of_ble_eq_true rfl) dX2_askLeaves_13 (st2 := [iV v7]) rfl) ?_
    clear he8
    refine e2 (fun q0 q1 => ?_)
    subst q0
    subst q1
    exact go_iret (pc := 16) (Y := YX2_askLeaves) rfl dX2_askLeaves_16
  · refine im (go_aload_n (pc := 17) (Y := YX2_askLeaves) 0 dX2_askLeaves_17 rfl rfl) ?_
    refine kdg (fun k9 => ?_)
    refine bdg (fun s10 v11 he12 => ?_)
    refine im (go_callV (pc := 18) (Y := YX2_askLeaves) (Yc := YX2_askOf) (y := yX2_askOf) (n := 0) (c0 := 2) (q := (RX2, TX2, 37)) this [] [] rfl rfl k9 (mX2_askOf s2 he12) YOK_X2_askOf rfl q2168 q133 q2167 qs120 q2165 (Nat.le_of_ble_eq_true rfl) (Nat.le_of_ble_eq_true rfl) (Nat.le_of_ble_eq_true rfl) dX2_askLeaves_18 (st2 := [iV v11]) rfl) ?_
    clear he12
    refine im (go_istore_n (pc := 21) (Y := YX2_askLeaves) (ls2 := [(1, iV v11), (0, rV (some this))]) dX2_askLeaves_21 rfl (Nat.le_of_ble_eq_true rfl) rfl) ?_
    refine im (go_iload_n (pc := 22) (Y := YX2_askLeaves) 0 dX2_askLeaves_22 rfl rfl) ?_
    refine flp2 (go_if_ge (pc := 23) (Y := YX2_askLeaves) 31 dX2_askLeaves_23 (by decide)) ?_ ?_
    · refine im (go_aload_n (pc := 31) (Y := YX2_askLeaves) 1 dX2_askLeaves_31 rfl rfl) ?_
      refine im (go_iload_n (pc := 32) (Y := YX2_askLeaves) 0 dX2_askLeaves_32 rfl rfl) ?_
      refine kdg (fun k13 => ?_)
      refine bpg (fun v14 he15 => ?_)
      refine im (go_callV (pc := 33) (Y := YX2_askLeaves) (Yc := YX2_leavesOf) (y := yX2_leavesOf) (n := 1) (c0 := 2) (q := (RX2, TX2, 37)) this [iV v11] [] rfl rfl k13 (mX2_leavesOf s10 he15) YOK_X2_leavesOf rfl q2172 q133 q2171 qs121 q2169 (Nat.le_of_ble_eq_true rfl) (Nat.le_of_ble_eq_true rfl) (Nat.le_of_ble_eq_true rfl) dX2_askLeaves_33 (st2 := [iV v14]) rfl) ?_
      clear he15
      refine e2 (fun q0 q1 => ?_)
      subst q0
      subst q1
      exact go_iret (pc := 36) (Y := YX2_askLeaves) rfl dX2_askLeaves_36
    · refine im (go_bipush (pc := 26) (Y := YX2_askLeaves) (v := -2) dX2_askLeaves_26 rfl) ?_
      refine im (go_goto (pc := 28) (Y := YX2_askLeaves) 36 dX2_askLeaves_28 (by decide)) ?_
      refine e2 (fun q0 q1 => ?_)
      subst q0
      subst q1
      exact go_iret (pc := 36) (Y := YX2_askLeaves) rfl dX2_askLeaves_36
abbrev YX2_judge : mY := (RX2, cX2_judge, 1, (Option.some .int), 6, 139, false)
theorem YOK_X2_judge : YOK yX2_judge 0 := ⟨⟨by decide +kernel, by decide +kernel⟩, by decide +kernel⟩
theorem mX2_judge {G : gG} (s0 : St) {this : Nat} {sE : St} {vE : Int32} (h : sX2_judge s0 this = some (sE, vE)) : Mt G YX2_judge yX2_judge [rV (some this)] s0 (some (iV vE)) sE := by
  refine go_start (ls0 := [(0, rV (some this))]) (by decide +kernel) rfl (fun h => by cases h) (Nat.le_of_ble_eq_true rfl) rfl ?_
  revert h
  unfold sX2_judge
  refine im (go_aload_n (pc := 0) (Y := YX2_judge) 0 dX2_judge_0 rfl rfl) ?_
  refine kdg (fun k1 => ?_)
  refine bpg (fun s2 he3 => ?_)
  refine im (go_callV (pc := 1) (Y := YX2_judge) (Yc := YX2_good) (y := yX2_good) (n := 0) (c0 := 2) (q := (RX2, TX2, 37)) this [] [] rfl rfl k1 (mX2_good s0 he3) YOK_X2_good rfl q1760 q133 q1759 qs66 q1757 (Nat.le_of_ble_eq_true rfl) (Nat.le_of_ble_eq_true rfl) (Nat.le_of_ble_eq_true rfl) dX2_judge_1 (st2 := []) rfl) ?_
  clear he3
  refine im (go_aload_n (pc := 4) (Y := YX2_judge) 0 dX2_judge_4 rfl rfl) ?_
  refine flp (go_gI (pc := 5) (Y := YX2_judge) fF31 (by decide) q1647 (Or.inl rfl) dX2_judge_5) (fun v4 => ?_)
  refine flp2 (go_if_eq (pc := 8) (Y := YX2_judge) 19 dX2_judge_8 (by decide)) ?_ ?_
  · refine im (go_aload_n (pc := 19) (Y := YX2_judge) 0 dX2_judge_19 rfl rfl) ?_
    refine im (go_iconst (pc := 20) (Y := YX2_judge) (v := 1) dX2_judge_20 rfl) ?_
    refine kdg (fun k5 => ?_)
    refine bdg (fun s6 v7 he8 => ?_)
    refine im (go_callV (pc := 21) (Y := YX2_judge) (Yc := YX2_no) (y := yX2_no) (n := 1) (c0 := 2) (q := (RX2, TX2, 37)) this [iV 1] [] rfl rfl k5 (mX2_no s2 he8) YOK_X2_no rfl q1767 q133 q1766 qs67 q1764 (Nat.le_of_ble_eq_true rfl) (Nat.le_of_ble_eq_true rfl) (Nat.le_of_ble_eq_true rfl) dX2_judge_21 (st2 := [iV v7]) rfl) ?_
    clear he8
    refine e2 (fun q0 q1 => ?_)
    subst q0
    subst q1
    exact go_iret (pc := 24) (Y := YX2_judge) rfl dX2_judge_24
  · refine im (go_aload_n (pc := 11) (Y := YX2_judge) 0 dX2_judge_11 rfl rfl) ?_
    refine im (go_iconst (pc := 12) (Y := YX2_judge) (v := 0) dX2_judge_12 rfl) ?_
    refine kdg (fun k9 => ?_)
    refine bdg (fun s10 v11 he12 => ?_)
    refine im (go_callV (pc := 13) (Y := YX2_judge) (Yc := YX2_wrongBy) (y := yX2_wrongBy) (n := 1) (c0 := 2) (q := (RX2, TX2, 37)) this [iV 0] [] rfl rfl k9 (mX2_wrongBy s2 he12) YOK_X2_wrongBy rfl q2148 q133 q2147 qs119 q2145 (Nat.le_of_ble_eq_true rfl) (Nat.le_of_ble_eq_true rfl) (Nat.le_of_ble_eq_true rfl) dX2_judge_13 (st2 := [iV v11]) rfl) ?_
    clear he12
    refine im (go_goto (pc := 16) (Y := YX2_judge) 24 dX2_judge_16 (by decide)) ?_
    refine e2 (fun q0 q1 => ?_)
    subst q0
    subst q1
    exact go_iret (pc := 24) (Y := YX2_judge) rfl dX2_judge_24
abbrev YX2_lowest : mY := (RX2, cX2_lowest, 11, (Option.some .long), 0, 0, false)
theorem YOK_X2_lowest : YOK yX2_lowest 3 := ⟨⟨by decide +kernel, by decide +kernel⟩, by decide +kernel⟩
theorem sX2_lowest_L6_go {G : gG} {s0 sE : St} {rE : Option V3} (s1 : St) (i0 : Int64) (i2 : Int64) (i4 : Int32) : ∀ (n : Nat) (v2 : Int64) (v3 : Int64) (v4 : Int64), sX2_lowest_L6 n v2 v3 = some v4 → Go G YX2_lowest s0 sE rE 31 [(0, lV i0), (2, lV i2), (4, iV i4), (5, lV v4)] [] s1 → Go G YX2_lowest s0 sE rE 6 [(0, lV i0), (2, lV i2), (4, iV i4), (5, lV v2), (7, lV v3)] [] s1 := by
  intro n
  induction n with
  | zero => intro v2 v3 v4 h hx; rw [sX2_lowest_L6] at h; cases h
  | succ n ih =>
    intro v2 v3 v4 h hx
    revert h
    rw [sX2_lowest_L6]
    refine im (go_lload (pc := 6) (Y := YX2_lowest) 4 dX2_lowest_6 rfl) ?_
    refine im (go_lconst (pc := 8) (Y := YX2_lowest) (v := 0) dX2_lowest_8 rfl) ?_
    refine im (go_lcmp (pc := 9) (Y := YX2_lowest) dX2_lowest_9) ?_
    refine flp2 (go_if_eq (pc := 10) (Y := YX2_lowest) 31 dX2_lowest_10 (by decide)) ?_ ?_
    · refine e1 (fun q0 => ?_)
      subst q0
      exact go_sub [0, 1, 2, 3] rfl hx
    · refine im (go_lload (pc := 13) (Y := YX2_lowest) 3 dX2_lowest_13 rfl) ?_
      refine im (go_lload (pc := 15) (Y := YX2_lowest) 4 dX2_lowest_15 rfl) ?_
      refine flp (go_lrem (pc := 17) (Y := YX2_lowest) dX2_lowest_17) (fun h => ?_)
      revert h
      refine im (go_lstore (pc := 18) (Y := YX2_lowest) (ls2 := [(9, lV (v2 - v2 / v3 * v3)), (0, lV i0), (2, lV i2), (4, iV i4), (5, lV v2), (7, lV v3)]) dX2_lowest_18 (Nat.le_of_ble_eq_true rfl) rfl) ?_
      refine im (go_lload (pc := 20) (Y := YX2_lowest) 5 dX2_lowest_20 rfl) ?_
      refine im (go_lstore (pc := 22) (Y := YX2_lowest) (ls2 := [(5, lV v3), (9, lV (v2 - v2 / v3 * v3)), (0, lV i0), (2, lV i2), (4, iV i4), (7, lV v3)]) dX2_lowest_22 (Nat.le_of_ble_eq_true rfl) rfl) ?_
      refine im (go_lload (pc := 24) (Y := YX2_lowest) 1 dX2_lowest_24 rfl) ?_
      refine im (go_lstore (pc := 26) (Y := YX2_lowest) (ls2 := [(7, lV (v2 - v2 / v3 * v3)), (5, lV v3), (9, lV (v2 - v2 / v3 * v3)), (0, lV i0), (2, lV i2), (4, iV i4)]) dX2_lowest_26 (Nat.le_of_ble_eq_true rfl) rfl) ?_
      refine im (go_goto (pc := 28) (Y := YX2_lowest) 6 dX2_lowest_28 (by decide)) ?_
      exact fun hq => go_sub [3, 4, 5, 1, 0] rfl (ih _ _ _ hq hx)
theorem mX2_lowest {G : gG} (s0 : St) {p0 : Int64} {p1 : Int64} {p2 : Int32} {vE : Int64} (h : sX2_lowest s0 p0 p1 p2 = some vE) : Mt G YX2_lowest yX2_lowest [lV p0, lV p1, iV p2] s0 (some (lV vE)) s0 := by
  refine go_start (ls0 := [(0, lV p0), (2, lV p1), (4, iV p2)]) (by decide +kernel) rfl (fun h => by cases h) (Nat.le_of_ble_eq_true rfl) rfl ?_
  revert h
  unfold sX2_lowest
  refine im (go_lload_n (pc := 0) (Y := YX2_lowest) 1 dX2_lowest_0 rfl rfl) ?_
  refine im (go_lstore (pc := 1) (Y := YX2_lowest) (ls2 := [(5, lV p1), (0, lV p0), (2, lV p1), (4, iV p2)]) dX2_lowest_1 (Nat.le_of_ble_eq_true rfl) rfl) ?_
  refine im (go_lload_n (pc := 3) (Y := YX2_lowest) 1 dX2_lowest_3 rfl rfl) ?_
  refine im (go_lstore (pc := 4) (Y := YX2_lowest) (ls2 := [(7, lV p0), (5, lV p1), (0, lV p0), (2, lV p1), (4, iV p2)]) dX2_lowest_4 (Nat.le_of_ble_eq_true rfl) rfl) ?_
  refine bpg (fun v5 he9 h10 => ?_)
  refine go_sub [2, 3, 4, 1, 0] rfl (sX2_lowest_L6_go s0 p0 p1 p2 FU _ _ _ he9 ?_)
  clear he9
  revert h10
  refine im (go_iload (pc := 31) (Y := YX2_lowest) 2 dX2_lowest_31 rfl) ?_
  refine bpg (fun v6 he7 h8 => ?_)
  have hj41 : Go G YX2_lowest s0 s0 (some (lV vE)) 41 [(5, lV v5)] [lV v6] s0 := by
    clear he7
    revert h8
    refine im (go_lload (pc := 41) (Y := YX2_lowest) 0 dX2_lowest_41 rfl) ?_
    refine flp (go_ldiv (pc := 43) (Y := YX2_lowest) dX2_lowest_43) (fun h => ?_)
    revert h
    refine e1 (fun q0 => ?_)
    subst q0
    exact go_lret (pc := 44) (Y := YX2_lowest) rfl dX2_lowest_44
  clear h8
  revert he7
  refine flp2 (go_if_eq (pc := 33) (Y := YX2_lowest) 40 dX2_lowest_33 (by decide)) ?_ ?_
  · refine im (go_lload_n (pc := 40) (Y := YX2_lowest) 0 dX2_lowest_40 rfl rfl) ?_
    refine e1 (fun q0 => ?_)
    subst q0
    exact go_sub [3] rfl hj41
  · refine im (go_lload_n (pc := 36) (Y := YX2_lowest) 1 dX2_lowest_36 rfl rfl) ?_
    refine im (go_goto (pc := 37) (Y := YX2_lowest) 41 dX2_lowest_37 (by decide)) ?_
    refine e1 (fun q0 => ?_)
    subst q0
    exact go_sub [3] rfl hj41
abbrev YX2_swings : mY := (RX2, cX2_swings, 11, (Option.some .long), 3, 68, false)
theorem YOK_X2_swings : YOK yX2_swings 4 := ⟨⟨by decide +kernel, by decide +kernel⟩, by decide +kernel⟩
theorem sX2_swings_L97_go {G : gG} {s0 sE : St} {rE : Option V3} (s24 : St) (this : Nat) (i1 : Int32) (i4 : Int32) (i7 : Int32) : ∀ (n : Nat) (v25 : Int32) (v26 : Int32) (v27 : Int32) (v28 : Int32) (v29 : Int32), sX2_swings_L97 s24 this i1 i7 n v25 v26 v27 = some (v28, v29) → Go G YX2_swings s0 sE rE 171 [(4, iV i4), (8, iV v28), (9, iV v29)] [] s24 → Go G YX2_swings s0 sE rE 97 [(0, rV (some this)), (1, iV i1), (4, iV i4), (7, iV i7), (8, iV v25), (9, iV v26), (10, iV v27)] [] s24 := by
  intro n
  induction n with
  | zero => intro v25 v26 v27 v28 v29 h hx; rw [sX2_swings_L97] at h; cases h
  | succ n ih =>
    intro v25 v26 v27 v28 v29 h hx
    revert h
    rw [sX2_swings_L97]
    refine im (go_iload (pc := 97) (Y := YX2_swings) 6 dX2_swings_97 rfl) ?_
    refine im (go_iconst (pc := 99) (Y := YX2_swings) (v := 1) dX2_swings_99 rfl) ?_
    refine im (go_aload_n (pc := 100) (Y := YX2_swings) 0 dX2_swings_100 rfl rfl) ?_
    refine flp (go_gR (pc := 101) (Y := YX2_swings) fF1011 (by decide) q1648 (Or.inl rfl) dX2_swings_101) (fun v30 => ?_)
    refine im (go_iconst (pc := 104) (Y := YX2_swings) (v := 3) dX2_swings_104 rfl) ?_
    refine flp (go_lI1 (pc := 105) (Y := YX2_swings) dX2_swings_105) (fun v31 => ?_)
    refine im (go_ishl (pc := 106) (Y := YX2_swings) dX2_swings_106) ?_
    refine flp2 (go_icmp_ge (pc := 107) (Y := YX2_swings) 171 dX2_swings_107 (by decide)) ?_ ?_
    · refine e2 (fun q0 q1 => ?_)
      subst q0
      subst q1
      exact go_sub [2, 4, 5] rfl hx
    · refine im (go_iload (pc := 110) (Y := YX2_swings) 6 dX2_swings_110 rfl) ?_
      refine im (go_iload (pc := 112) (Y := YX2_swings) 3 dX2_swings_112 rfl) ?_
      refine im (go_iconst (pc := 114) (Y := YX2_swings) (v := -1) dX2_swings_114 rfl) ?_
      refine im (go_ixor (pc := 115) (Y := YX2_swings) dX2_swings_115) ?_
      refine im (go_iand (pc := 116) (Y := YX2_swings) dX2_swings_116) ?_
      refine b2g (fun v32 v33 he45 h46 => ?_)
      have hj165 : Go G YX2_swings s0 sE rE 165 [(0, rV (some this)), (1, iV i1), (4, iV i4), (7, iV i7), (8, iV v32), (9, iV v33), (10, iV v27)] [] s24 := by
        clear he45
        revert h46
        refine im (go_iinc (pc := 165) (Y := YX2_swings) 6 (v := (v27 + 1)) (ls2 := [(10, iV (v27 + 1)), (0, rV (some this)), (1, iV i1), (4, iV i4), (7, iV i7), (8, iV v32), (9, iV v33)]) dX2_swings_165 rfl rfl (Nat.le_of_ble_eq_true rfl) rfl) ?_
        refine im (go_goto (pc := 168) (Y := YX2_swings) 97 dX2_swings_168 (by decide)) ?_
        exact fun hq => go_sub [1, 2, 3, 4, 5, 6, 0] rfl (ih _ _ _ _ _ hq hx)
      clear h46
      revert he45
      refine flp2 (go_if_eq (pc := 117) (Y := YX2_swings) 123 dX2_swings_117 (by decide)) ?_ ?_
      · refine im (go_iinc (pc := 123) (Y := YX2_swings) 4 (v := (v25 + 1)) (ls2 := [(8, iV (v25 + 1)), (0, rV (some this)), (1, iV i1), (4, iV i4), (7, iV i7), (9, iV v26), (10, iV v27)]) dX2_swings_123 rfl rfl (Nat.le_of_ble_eq_true rfl) rfl) ?_
        refine im (go_iload (pc := 126) (Y := YX2_swings) 5 dX2_swings_126 rfl) ?_
        refine im (go_aload_n (pc := 128) (Y := YX2_swings) 1 dX2_swings_128 rfl rfl) ?_
        refine im (go_iload (pc := 129) (Y := YX2_swings) 6 dX2_swings_129 rfl) ?_
        refine kdg (fun k34 => ?_)
        refine bpg (fun v35 he36 => ?_)
        refine im (go_callV (pc := 131) (Y := YX2_swings) (Yc := YX2_eyesOf) (y := yX2_eyesOf) (n := 1) (c0 := 2) (q := (RX2, TX2, 37)) this [iV v27] [iV v26] rfl rfl k34 (mX2_eyesOf s24 he36) YOK_X2_eyesOf rfl q2016 q133 q2015 qs107 q2013 (Nat.le_of_ble_eq_true rfl) (Nat.le_of_ble_eq_true rfl) (Nat.le_of_ble_eq_true rfl) dX2_swings_131 (st2 := [iV v35, iV v26]) rfl) ?_
        clear he36
        refine im (go_bipush (pc := 134) (Y := YX2_swings) (v := 6) dX2_swings_134 rfl) ?_
        refine bpg (fun v37 he43 h44 => ?_)
        have hj162 : Go G YX2_swings s0 sE rE 162 [(0, rV (some this)), (1, iV i1), (4, iV i4), (7, iV i7), (8, iV (v25 + 1)), (10, iV v27)] [iV v37, iV v26] s24 := by
          clear he43
          revert h44
          refine im (go_iadd (pc := 162) (Y := YX2_swings) dX2_swings_162) ?_
          refine im (go_istore (pc := 163) (Y := YX2_swings) (ls2 := [(9, iV (v26 + v37)), (0, rV (some this)), (1, iV i1), (4, iV i4), (7, iV i7), (8, iV (v25 + 1)), (10, iV v27)]) dX2_swings_163 (Nat.le_of_ble_eq_true rfl) rfl) ?_
          refine e2 (fun q0 q1 => ?_)
          subst q0
          subst q1
          exact go_sub [1, 2, 3, 4, 5, 0, 6] rfl hj165
        clear h44
        revert he43
        refine flp2 (go_icmp_ge (pc := 136) (Y := YX2_swings) 161 dX2_swings_136 (by decide)) ?_ ?_
        · refine im (go_iconst (pc := 161) (Y := YX2_swings) (v := 0) dX2_swings_161 rfl) ?_
          refine e1 (fun q0 => ?_)
          subst q0
          exact go_sub [1, 2, 3, 4, 0, 6] rfl hj162
        · refine im (go_aload_n (pc := 139) (Y := YX2_swings) 1 dX2_swings_139 rfl rfl) ?_
          refine im (go_iload (pc := 140) (Y := YX2_swings) 6 dX2_swings_140 rfl) ?_
          refine kdg (fun k38 => ?_)
          refine bpg (fun v39 he40 => ?_)
          refine im (go_callV (pc := 142) (Y := YX2_swings) (Yc := YX2_eyesOf) (y := yX2_eyesOf) (n := 1) (c0 := 2) (q := (RX2, TX2, 37)) this [iV v27] [iV v26] rfl rfl k38 (mX2_eyesOf s24 he40) YOK_X2_eyesOf rfl q2016 q133 q2015 qs107 q2013 (Nat.le_of_ble_eq_true rfl) (Nat.le_of_ble_eq_true rfl) (Nat.le_of_ble_eq_true rfl) dX2_swings_142 (st2 := [iV v39, iV v26]) rfl) ?_
          clear he40
          refine im (go_aload_n (pc := 145) (Y := YX2_swings) 1 dX2_swings_145 rfl rfl) ?_
          refine flp (go_gR (pc := 146) (Y := YX2_swings) fF1018 (by decide) q1657 (Or.inl rfl) dX2_swings_146) (fun v41 => ?_)
          refine im (go_iload_n (pc := 149) (Y := YX2_swings) 2 dX2_swings_149 rfl rfl) ?_
          refine flp (go_lI1 (pc := 150) (Y := YX2_swings) dX2_swings_150) (fun v42 => ?_)
          refine im (go_iadd (pc := 151) (Y := YX2_swings) dX2_swings_151) ?_
          refine im (go_bipush (pc := 152) (Y := YX2_swings) (v := 6) dX2_swings_152 rfl) ?_
          refine flp2 (go_icmp_lt (pc := 154) (Y := YX2_swings) 161 dX2_swings_154 (by decide)) ?_ ?_
          · refine im (go_iconst (pc := 161) (Y := YX2_swings) (v := 0) dX2_swings_161 rfl) ?_
            refine e1 (fun q0 => ?_)
            subst q0
            exact go_sub [1, 2, 3, 4, 0, 6] rfl hj162
          · refine im (go_iconst (pc := 157) (Y := YX2_swings) (v := 1) dX2_swings_157 rfl) ?_
            refine im (go_goto (pc := 158) (Y := YX2_swings) 162 dX2_swings_158 (by decide)) ?_
            refine e1 (fun q0 => ?_)
            subst q0
            exact go_sub [1, 2, 3, 4, 0, 6] rfl hj162
      · refine im (go_goto (pc := 120) (Y := YX2_swings) 165 dX2_swings_120 (by decide)) ?_
        refine e2 (fun q0 q1 => ?_)
        subst q0
        subst q1
        exact go_sub [0, 1, 2, 3, 4, 5, 6] rfl hj165
theorem mX2_swings {G : gG} (s0 : St) {this : Nat} {p0 : Int32} {p1 : Int32} {p2 : Int32} {p3 : Int32} {sE : St} {vE : Int64} (h : sX2_swings s0 this p0 p1 p2 p3 = some (sE, vE)) : Mt G YX2_swings yX2_swings [rV (some this), iV p0, iV p1, iV p2, iV p3] s0 (some (lV vE)) sE := by
  refine go_start (ls0 := [(0, rV (some this)), (1, iV p0), (2, iV p1), (3, iV p2), (4, iV p3)]) (by decide +kernel) rfl (fun h => by cases h) (Nat.le_of_ble_eq_true rfl) rfl ?_
  revert h
  unfold sX2_swings
  refine im (go_aload_n (pc := 0) (Y := YX2_swings) 0 dX2_swings_0 rfl rfl) ?_
  refine kdg (fun k1 => ?_)
  refine bpg (fun s2 he3 => ?_)
  refine im (go_callV (pc := 1) (Y := YX2_swings) (Yc := YX2_good) (y := yX2_good) (n := 0) (c0 := 2) (q := (RX2, TX2, 37)) this [] [] rfl rfl k1 (mX2_good s0 he3) YOK_X2_good rfl q1760 q133 q1759 qs66 q1757 (Nat.le_of_ble_eq_true rfl) (Nat.le_of_ble_eq_true rfl) (Nat.le_of_ble_eq_true rfl) dX2_swings_1 (st2 := []) rfl) ?_
  clear he3
  refine im (go_aload_n (pc := 4) (Y := YX2_swings) 0 dX2_swings_4 rfl rfl) ?_
  refine im (go_aload_n (pc := 5) (Y := YX2_swings) 0 dX2_swings_5 rfl rfl) ?_
  refine im (go_iload_n (pc := 6) (Y := YX2_swings) 1 dX2_swings_6 rfl rfl) ?_
  refine kdg (fun k4 => ?_)
  refine bpg (fun v5 he6 => ?_)
  refine im (go_callV (pc := 7) (Y := YX2_swings) (Yc := YX2_isPerson) (y := yX2_isPerson) (n := 1) (c0 := 2) (q := (RX2, TX2, 37)) this [iV p0] [rV (some this)] rfl rfl k4 (mX2_isPerson s2 he6) YOK_X2_isPerson rfl q1942 q133 q1941 qs96 q1939 (Nat.le_of_ble_eq_true rfl) (Nat.le_of_ble_eq_true rfl) (Nat.le_of_ble_eq_true rfl) dX2_swings_7 (st2 := [iV v5, rV (some this)]) rfl) ?_
  clear he6
  refine bpg (fun v7 he60 h61 => ?_)
  have hj26 : Go G YX2_swings s0 sE (some (lV vE)) 26 [(0, rV (some this)), (1, iV p0), (2, iV p1), (3, iV p2), (4, iV p3)] [iV v7, rV (some this)] s2 := by
    clear he60
    revert h61
    refine im (go_aload_n (pc := 26) (Y := YX2_swings) 0 dX2_swings_26 rfl rfl) ?_
    refine im (go_iload_n (pc := 27) (Y := YX2_swings) 3 dX2_swings_27 rfl rfl) ?_
    refine kdg (fun k8 => ?_)
    refine bpg (fun v9 he10 => ?_)
    refine im (go_callV (pc := 28) (Y := YX2_swings) (Yc := YX2_isMinute) (y := yX2_isMinute) (n := 1) (c0 := 2) (q := (RX2, TX2, 37)) this [iV p2] [iV v7, rV (some this)] rfl rfl k8 (mX2_isMinute s2 he10) YOK_X2_isMinute rfl q1973 q133 q1972 qs100 q1970 (Nat.le_of_ble_eq_true rfl) (Nat.le_of_ble_eq_true rfl) (Nat.le_of_ble_eq_true rfl) dX2_swings_28 (st2 := [iV v9, iV v7, rV (some this)]) rfl) ?_
    clear he10
    refine kdg (fun k11 => ?_)
    refine bpg (fun v12 he13 => ?_)
    refine im (go_callV (pc := 31) (Y := YX2_swings) (Yc := YX2_why) (y := yX2_why) (n := 2) (c0 := 2) (q := (RX2, TX2, 37)) this [iV v7, iV v9] [] rfl rfl k11 (mX2_why s2 he13) YOK_X2_why rfl q1977 q133 q1976 qs101 q1974 (Nat.le_of_ble_eq_true rfl) (Nat.le_of_ble_eq_true rfl) (Nat.le_of_ble_eq_true rfl) dX2_swings_31 (st2 := [iV v12]) rfl) ?_
    clear he13
    refine im (go_istore (pc := 34) (Y := YX2_swings) (ls2 := [(5, iV v12), (0, rV (some this)), (1, iV p0), (2, iV p1), (3, iV p2), (4, iV p3)]) dX2_swings_34 (Nat.le_of_ble_eq_true rfl) rfl) ?_
    refine im (go_iload (pc := 36) (Y := YX2_swings) 0 dX2_swings_36 rfl) ?_
    refine flp2 (go_if_eq (pc := 38) (Y := YX2_swings) 49 dX2_swings_38 (by decide)) ?_ ?_
    · refine im (go_aload_n (pc := 49) (Y := YX2_swings) 1 dX2_swings_49 rfl rfl) ?_
      refine kdg (fun k14 => ?_)
      refine bpg (fun s15 he16 => ?_)
      refine im (go_callV (pc := 50) (Y := YX2_swings) (Yc := YX2_asNow) (y := yX2_asNow) (n := 0) (c0 := 2) (q := (RX2, TX2, 37)) this [] [] rfl rfl k14 (mX2_asNow s2 he16) YOK_X2_asNow rfl q1981 q133 q1980 qs102 q1978 (Nat.le_of_ble_eq_true rfl) (Nat.le_of_ble_eq_true rfl) (Nat.le_of_ble_eq_true rfl) dX2_swings_50 (st2 := []) rfl) ?_
      clear he16
      refine im (go_aload_n (pc := 53) (Y := YX2_swings) 1 dX2_swings_53 rfl rfl) ?_
      refine im (go_iload_n (pc := 54) (Y := YX2_swings) 3 dX2_swings_54 rfl rfl) ?_
      refine im (go_iload_n (pc := 55) (Y := YX2_swings) 4 dX2_swings_55 rfl rfl) ?_
      refine kdg (fun k17 => ?_)
      refine bpg (fun v18 he19 => ?_)
      refine im (go_callV (pc := 56) (Y := YX2_swings) (Yc := YX2_watchersOf) (y := yX2_watchersOf) (n := 2) (c0 := 2) (q := (RX2, TX2, 37)) this [iV p1, iV p2] [] rfl rfl k17 (mX2_watchersOf s15 he19) YOK_X2_watchersOf rfl q2008 q133 q2007 qs106 q2005 (Nat.le_of_ble_eq_true rfl) (Nat.le_of_ble_eq_true rfl) (Nat.le_of_ble_eq_true rfl) dX2_swings_56 (st2 := [iV v18]) rfl) ?_
      clear he19
      refine im (go_istore (pc := 59) (Y := YX2_swings) (ls2 := [(6, iV v18), (5, iV v12), (0, rV (some this)), (1, iV p0), (2, iV p1), (3, iV p2), (4, iV p3)]) dX2_swings_59 (Nat.le_of_ble_eq_true rfl) rfl) ?_
      refine im (go_iload (pc := 61) (Y := YX2_swings) 0 dX2_swings_61 rfl) ?_
      refine im (go_iload_n (pc := 63) (Y := YX2_swings) 3 dX2_swings_63 rfl rfl) ?_
      refine bpg (fun v20 he21 => ?_)
      refine im (go_callS (pc := 64) (Y := YX2_swings) (Yc := YX2_hasBit) (y := yX2_hasBit) (n := 2) [iV v18, iV p0] [] rfl (mX2_hasBit s15 he21) YOK_X2_hasBit rfl q2000 q133 q1999 q1998 (Nat.le_of_ble_eq_true rfl) (Nat.le_of_ble_eq_true rfl) (Nat.le_of_ble_eq_true rfl) dX2_swings_64 (st2 := [iV v20]) rfl) ?_
      clear he21
      refine flp2 (go_if_ne (pc := 67) (Y := YX2_swings) 78 dX2_swings_67 (by decide)) ?_ ?_
      · refine im (go_lconst (pc := 70) (Y := YX2_swings) (v := 0) dX2_swings_70 rfl) ?_
        refine im (go_lconst (pc := 71) (Y := YX2_swings) (v := 1) dX2_swings_71 rfl) ?_
        refine im (go_iload (pc := 72) (Y := YX2_swings) 6 dX2_swings_72 rfl) ?_
        refine bpg (fun v22 he23 => ?_)
        refine im (go_callS (pc := 74) (Y := YX2_swings) (Yc := YX2_lowest) (y := yX2_lowest) (n := 3) [lV 0, lV 1, iV p3] [] rfl (mX2_lowest s15 he23) YOK_X2_lowest rfl q2187 q133 q2186 q2185 (Nat.le_of_ble_eq_true rfl) (Nat.le_of_ble_eq_true rfl) (Nat.le_of_ble_eq_true rfl) dX2_swings_74 (st2 := [lV v22]) rfl) ?_
        clear he23
        refine e2 (fun q0 q1 => ?_)
        subst q0
        subst q1
        exact go_lret (pc := 77) (Y := YX2_swings) rfl dX2_swings_77
      · refine im (go_iload (pc := 78) (Y := YX2_swings) 0 dX2_swings_78 rfl) ?_
        refine im (go_iconst (pc := 80) (Y := YX2_swings) (v := 1) dX2_swings_80 rfl) ?_
        refine im (go_iload_n (pc := 81) (Y := YX2_swings) 3 dX2_swings_81 rfl rfl) ?_
        refine im (go_ishl (pc := 82) (Y := YX2_swings) dX2_swings_82) ?_
        refine im (go_iconst (pc := 83) (Y := YX2_swings) (v := -1) dX2_swings_83 rfl) ?_
        refine im (go_ixor (pc := 84) (Y := YX2_swings) dX2_swings_84) ?_
        refine im (go_iand (pc := 85) (Y := YX2_swings) dX2_swings_85) ?_
        refine im (go_istore (pc := 86) (Y := YX2_swings) (ls2 := [(7, iV (v18 &&& (((1 : Int32) <<< (p0 &&& 31)) ^^^ (-1)))), (6, iV v18), (5, iV v12), (0, rV (some this)), (1, iV p0), (2, iV p1), (3, iV p2), (4, iV p3)]) dX2_swings_86 (Nat.le_of_ble_eq_true rfl) rfl) ?_
        refine im (go_iconst (pc := 88) (Y := YX2_swings) (v := 0) dX2_swings_88 rfl) ?_
        refine im (go_istore (pc := 89) (Y := YX2_swings) (ls2 := [(8, iV 0), (7, iV (v18 &&& (((1 : Int32) <<< (p0 &&& 31)) ^^^ (-1)))), (6, iV v18), (5, iV v12), (0, rV (some this)), (1, iV p0), (2, iV p1), (3, iV p2), (4, iV p3)]) dX2_swings_89 (Nat.le_of_ble_eq_true rfl) rfl) ?_
        refine im (go_iconst (pc := 91) (Y := YX2_swings) (v := 0) dX2_swings_91 rfl) ?_
        refine im (go_istore (pc := 92) (Y := YX2_swings) (ls2 := [(9, iV 0), (8, iV 0), (7, iV (v18 &&& (((1 : Int32) <<< (p0 &&& 31)) ^^^ (-1)))), (6, iV v18), (5, iV v12), (0, rV (some this)), (1, iV p0), (2, iV p1), (3, iV p2), (4, iV p3)]) dX2_swings_92 (Nat.le_of_ble_eq_true rfl) rfl) ?_
        refine im (go_iconst (pc := 94) (Y := YX2_swings) (v := 0) dX2_swings_94 rfl) ?_
        refine im (go_istore (pc := 95) (Y := YX2_swings) (ls2 := [(10, iV 0), (9, iV 0), (8, iV 0), (7, iV (v18 &&& (((1 : Int32) <<< (p0 &&& 31)) ^^^ (-1)))), (6, iV v18), (5, iV v12), (0, rV (some this)), (1, iV p0), (2, iV p1), (3, iV p2), (4, iV p3)]) dX2_swings_95 (Nat.le_of_ble_eq_true rfl) rfl) ?_
        refine b2g (fun v47 v48 he51 h52 => ?_)
        refine go_sub [6, 7, 10, 3, 2, 1, 0] rfl (sX2_swings_L97_go s15 this p0 p3 (v18 &&& (((1 : Int32) <<< (p0 &&& 31)) ^^^ (-1))) FU _ _ _ _ _ he51 ?_)
        clear he51
        revert h52
        refine im (go_iload (pc := 171) (Y := YX2_swings) 2 dX2_swings_171 rfl) ?_
        refine im (go_i2l (pc := 173) (Y := YX2_swings) dX2_swings_173) ?_
        refine im (go_iload (pc := 174) (Y := YX2_swings) 1 dX2_swings_174 rfl) ?_
        refine im (go_i2l (pc := 176) (Y := YX2_swings) dX2_swings_176) ?_
        refine im (go_iload (pc := 177) (Y := YX2_swings) 0 dX2_swings_177 rfl) ?_
        refine bpg (fun v49 he50 => ?_)
        refine im (go_callS (pc := 179) (Y := YX2_swings) (Yc := YX2_lowest) (y := yX2_lowest) (n := 3) [lV (Int32.toInt64 v48), lV (Int32.toInt64 v47), iV p3] [] rfl (mX2_lowest s15 he50) YOK_X2_lowest rfl q2187 q133 q2186 q2185 (Nat.le_of_ble_eq_true rfl) (Nat.le_of_ble_eq_true rfl) (Nat.le_of_ble_eq_true rfl) dX2_swings_179 (st2 := [lV v49]) rfl) ?_
        clear he50
        refine e2 (fun q0 q1 => ?_)
        subst q0
        subst q1
        exact go_lret (pc := 182) (Y := YX2_swings) rfl dX2_swings_182
    · refine im (go_aload_n (pc := 41) (Y := YX2_swings) 1 dX2_swings_41 rfl rfl) ?_
      refine im (go_iload (pc := 42) (Y := YX2_swings) 0 dX2_swings_42 rfl) ?_
      refine kdg (fun k53 => ?_)
      refine bdg (fun s54 v55 he56 => ?_)
      refine im (go_callV (pc := 44) (Y := YX2_swings) (Yc := YX2_no) (y := yX2_no) (n := 1) (c0 := 2) (q := (RX2, TX2, 37)) this [iV v12] [] rfl rfl k53 (mX2_no s2 he56) YOK_X2_no rfl q1767 q133 q1766 qs67 q1764 (Nat.le_of_ble_eq_true rfl) (Nat.le_of_ble_eq_true rfl) (Nat.le_of_ble_eq_true rfl) dX2_swings_44 (st2 := [iV v55]) rfl) ?_
      clear he56
      refine im (go_i2l (pc := 47) (Y := YX2_swings) dX2_swings_47) ?_
      refine e2 (fun q0 q1 => ?_)
      subst q0
      subst q1
      exact go_lret (pc := 48) (Y := YX2_swings) rfl dX2_swings_48
  clear h61
  revert he60
  refine flp2 (go_if_eq (pc := 10) (Y := YX2_swings) 25 dX2_swings_10 (by decide)) ?_ ?_
  · refine im (go_iconst (pc := 25) (Y := YX2_swings) (v := 0) dX2_swings_25 rfl) ?_
    refine e1 (fun q0 => ?_)
    subst q0
    exact go_sub [0, 1, 2, 3, 4] rfl hj26
  · refine im (go_aload_n (pc := 13) (Y := YX2_swings) 0 dX2_swings_13 rfl rfl) ?_
    refine im (go_iload_n (pc := 14) (Y := YX2_swings) 2 dX2_swings_14 rfl rfl) ?_
    refine kdg (fun k57 => ?_)
    refine bpg (fun v58 he59 => ?_)
    refine im (go_callV (pc := 15) (Y := YX2_swings) (Yc := YX2_isPlace) (y := yX2_isPlace) (n := 1) (c0 := 2) (q := (RX2, TX2, 37)) this [iV p1] [rV (some this)] rfl rfl k57 (mX2_isPlace s2 he59) YOK_X2_isPlace rfl q1993 q133 q1992 qs104 q1990 (Nat.le_of_ble_eq_true rfl) (Nat.le_of_ble_eq_true rfl) (Nat.le_of_ble_eq_true rfl) dX2_swings_15 (st2 := [iV v58, rV (some this)]) rfl) ?_
    clear he59
    refine flp2 (go_if_eq (pc := 18) (Y := YX2_swings) 25 dX2_swings_18 (by decide)) ?_ ?_
    · refine im (go_iconst (pc := 25) (Y := YX2_swings) (v := 0) dX2_swings_25 rfl) ?_
      refine e1 (fun q0 => ?_)
      subst q0
      exact go_sub [0, 1, 2, 3, 4] rfl hj26
    · refine im (go_iconst (pc := 21) (Y := YX2_swings) (v := 1) dX2_swings_21 rfl) ?_
      refine im (go_goto (pc := 22) (Y := YX2_swings) 26 dX2_swings_22 (by decide)) ?_
      refine e1 (fun q0 => ?_)
      subst q0
      exact go_sub [0, 1, 2, 3, 4] rfl hj26
abbrev YX2_three : mY := (RX2, cX2_three, 7, (Option.some .int), 3, 68, false)
theorem YOK_X2_three : YOK yX2_three 2 := ⟨⟨by decide +kernel, by decide +kernel⟩, by decide +kernel⟩
theorem sX2_three_L48_go {G : gG} {s0 sE : St} {rE : Option V3} (s19 : St) (this : Nat) (i4 : Int32) : ∀ (n : Nat) (v20 : Int32) (v21 : Int32) (v22 : Int32), sX2_three_L48 s19 this i4 n v20 v21 = some v22 → Go G YX2_three s0 sE rE 110 [(5, iV v22)] [] s19 → Go G YX2_three s0 sE rE 48 [(0, rV (some this)), (4, iV i4), (5, iV v20), (6, iV v21)] [] s19 := by
  intro n
  induction n with
  | zero => intro v20 v21 v22 h hx; rw [sX2_three_L48] at h; cases h
  | succ n ih =>
    intro v20 v21 v22 h hx
    revert h
    rw [sX2_three_L48]
    refine im (go_iload (pc := 48) (Y := YX2_three) 3 dX2_three_48 rfl) ?_
    refine im (go_iconst (pc := 50) (Y := YX2_three) (v := 1) dX2_three_50 rfl) ?_
    refine im (go_aload_n (pc := 51) (Y := YX2_three) 0 dX2_three_51 rfl rfl) ?_
    refine flp (go_gR (pc := 52) (Y := YX2_three) fF1011 (by decide) q1648 (Or.inl rfl) dX2_three_52) (fun v23 => ?_)
    refine im (go_iconst (pc := 55) (Y := YX2_three) (v := 3) dX2_three_55 rfl) ?_
    refine flp (go_lI1 (pc := 56) (Y := YX2_three) dX2_three_56) (fun v24 => ?_)
    refine im (go_ishl (pc := 57) (Y := YX2_three) dX2_three_57) ?_
    refine flp2 (go_icmp_ge (pc := 58) (Y := YX2_three) 110 dX2_three_58 (by decide)) ?_ ?_
    · refine e1 (fun q0 => ?_)
      subst q0
      exact go_sub [2] rfl hx
    · refine im (go_iload (pc := 61) (Y := YX2_three) 3 dX2_three_61 rfl) ?_
      refine im (go_iload (pc := 63) (Y := YX2_three) 1 dX2_three_63 rfl) ?_
      refine im (go_iconst (pc := 65) (Y := YX2_three) (v := -1) dX2_three_65 rfl) ?_
      refine im (go_ixor (pc := 66) (Y := YX2_three) dX2_three_66) ?_
      refine im (go_iand (pc := 67) (Y := YX2_three) dX2_three_67) ?_
      refine bpg (fun v25 he33 h34 => ?_)
      have hj104 : Go G YX2_three s0 sE rE 104 [(0, rV (some this)), (4, iV i4), (5, iV v25), (6, iV v21)] [] s19 := by
        clear he33
        revert h34
        refine im (go_iinc (pc := 104) (Y := YX2_three) 3 (v := (v21 + 1)) (ls2 := [(6, iV (v21 + 1)), (0, rV (some this)), (4, iV i4), (5, iV v25)]) dX2_three_104 rfl rfl (Nat.le_of_ble_eq_true rfl) rfl) ?_
        refine im (go_goto (pc := 107) (Y := YX2_three) 48 dX2_three_107 (by decide)) ?_
        exact fun hq => go_sub [1, 2, 3, 0] rfl (ih _ _ _ hq hx)
      clear h34
      revert he33
      refine flp2 (go_if_ne (pc := 68) (Y := YX2_three) 104 dX2_three_68 (by decide)) ?_ ?_
      · refine im (go_aload_n (pc := 71) (Y := YX2_three) 0 dX2_three_71 rfl rfl) ?_
        refine im (go_iload (pc := 72) (Y := YX2_three) 3 dX2_three_72 rfl) ?_
        refine kdg (fun k26 => ?_)
        refine bpg (fun v27 he28 => ?_)
        refine im (go_callV (pc := 74) (Y := YX2_three) (Yc := YX2_eyesOf) (y := yX2_eyesOf) (n := 1) (c0 := 2) (q := (RX2, TX2, 37)) this [iV v21] [] rfl rfl k26 (mX2_eyesOf s19 he28) YOK_X2_eyesOf rfl q2016 q133 q2015 qs107 q2013 (Nat.le_of_ble_eq_true rfl) (Nat.le_of_ble_eq_true rfl) (Nat.le_of_ble_eq_true rfl) dX2_three_74 (st2 := [iV v27]) rfl) ?_
        clear he28
        refine im (go_bipush (pc := 77) (Y := YX2_three) (v := 6) dX2_three_77 rfl) ?_
        refine flp2 (go_icmp_lt (pc := 79) (Y := YX2_three) 104 dX2_three_79 (by decide)) ?_ ?_
        · refine e1 (fun q0 => ?_)
          subst q0
          exact go_sub [0, 1, 2, 3] rfl hj104
        · refine im (go_iload (pc := 82) (Y := YX2_three) 2 dX2_three_82 rfl) ?_
          refine flp2 (go_if_lt (pc := 84) (Y := YX2_three) 100 dX2_three_84 (by decide)) ?_ ?_
          · refine im (go_iload (pc := 100) (Y := YX2_three) 3 dX2_three_100 rfl) ?_
            refine im (go_istore (pc := 102) (Y := YX2_three) (ls2 := [(5, iV v21), (0, rV (some this)), (4, iV i4), (6, iV v21)]) dX2_three_102 (Nat.le_of_ble_eq_true rfl) rfl) ?_
            refine e1 (fun q0 => ?_)
            subst q0
            exact go_sub [1, 2, 0, 3] rfl hj104
          · refine im (go_iload (pc := 87) (Y := YX2_three) 3 dX2_three_87 rfl) ?_
            refine bpg (fun v29 he30 => ?_)
            refine im (go_callS (pc := 89) (Y := YX2_three) (Yc := YX2_ones) (y := yX2_ones) (n := 1) [iV v21] [] rfl (mX2_ones s19 he30) YOK_X2_ones rfl q2080 q133 q2079 q2078 (Nat.le_of_ble_eq_true rfl) (Nat.le_of_ble_eq_true rfl) (Nat.le_of_ble_eq_true rfl) dX2_three_89 (st2 := [iV v29]) rfl) ?_
            clear he30
            refine im (go_iload (pc := 92) (Y := YX2_three) 2 dX2_three_92 rfl) ?_
            refine bpg (fun v31 he32 => ?_)
            refine im (go_callS (pc := 94) (Y := YX2_three) (Yc := YX2_ones) (y := yX2_ones) (n := 1) [iV v20] [iV v29] rfl (mX2_ones s19 he32) YOK_X2_ones rfl q2080 q133 q2079 q2078 (Nat.le_of_ble_eq_true rfl) (Nat.le_of_ble_eq_true rfl) (Nat.le_of_ble_eq_true rfl) dX2_three_94 (st2 := [iV v31, iV v29]) rfl) ?_
            clear he32
            refine flp2 (go_icmp_ge (pc := 97) (Y := YX2_three) 104 dX2_three_97 (by decide)) ?_ ?_
            · refine e1 (fun q0 => ?_)
              subst q0
              exact go_sub [0, 1, 2, 3] rfl hj104
            · refine im (go_iload (pc := 100) (Y := YX2_three) 3 dX2_three_100 rfl) ?_
              refine im (go_istore (pc := 102) (Y := YX2_three) (ls2 := [(5, iV v21), (0, rV (some this)), (4, iV i4), (6, iV v21)]) dX2_three_102 (Nat.le_of_ble_eq_true rfl) rfl) ?_
              refine e1 (fun q0 => ?_)
              subst q0
              exact go_sub [1, 2, 0, 3] rfl hj104
      · refine e1 (fun q0 => ?_)
        subst q0
        exact go_sub [0, 1, 2, 3] rfl hj104
theorem mX2_three {G : gG} (s0 : St) {this : Nat} {p0 : Int32} {p1 : Int32} {sE : St} {vE : Int32} (h : sX2_three s0 this p0 p1 = some (sE, vE)) : Mt G YX2_three yX2_three [rV (some this), iV p0, iV p1] s0 (some (iV vE)) sE := by
  refine go_start (ls0 := [(0, rV (some this)), (1, iV p0), (2, iV p1)]) (by decide +kernel) rfl (fun h => by cases h) (Nat.le_of_ble_eq_true rfl) rfl ?_
  revert h
  unfold sX2_three
  refine im (go_aload_n (pc := 0) (Y := YX2_three) 0 dX2_three_0 rfl rfl) ?_
  refine kdg (fun k1 => ?_)
  refine bpg (fun s2 he3 => ?_)
  refine im (go_callV (pc := 1) (Y := YX2_three) (Yc := YX2_good) (y := yX2_good) (n := 0) (c0 := 2) (q := (RX2, TX2, 37)) this [] [] rfl rfl k1 (mX2_good s0 he3) YOK_X2_good rfl q1760 q133 q1759 qs66 q1757 (Nat.le_of_ble_eq_true rfl) (Nat.le_of_ble_eq_true rfl) (Nat.le_of_ble_eq_true rfl) dX2_three_1 (st2 := []) rfl) ?_
  clear he3
  refine im (go_aload_n (pc := 4) (Y := YX2_three) 0 dX2_three_4 rfl rfl) ?_
  refine im (go_aload_n (pc := 5) (Y := YX2_three) 0 dX2_three_5 rfl rfl) ?_
  refine im (go_iload_n (pc := 6) (Y := YX2_three) 1 dX2_three_6 rfl rfl) ?_
  refine kdg (fun k4 => ?_)
  refine bpg (fun v5 he6 => ?_)
  refine im (go_callV (pc := 7) (Y := YX2_three) (Yc := YX2_isPlace) (y := yX2_isPlace) (n := 1) (c0 := 2) (q := (RX2, TX2, 37)) this [iV p0] [rV (some this)] rfl rfl k4 (mX2_isPlace s2 he6) YOK_X2_isPlace rfl q1993 q133 q1992 qs104 q1990 (Nat.le_of_ble_eq_true rfl) (Nat.le_of_ble_eq_true rfl) (Nat.le_of_ble_eq_true rfl) dX2_three_7 (st2 := [iV v5, rV (some this)]) rfl) ?_
  clear he6
  refine im (go_aload_n (pc := 10) (Y := YX2_three) 0 dX2_three_10 rfl rfl) ?_
  refine im (go_iload_n (pc := 11) (Y := YX2_three) 2 dX2_three_11 rfl rfl) ?_
  refine kdg (fun k7 => ?_)
  refine bpg (fun v8 he9 => ?_)
  refine im (go_callV (pc := 12) (Y := YX2_three) (Yc := YX2_isMinute) (y := yX2_isMinute) (n := 1) (c0 := 2) (q := (RX2, TX2, 37)) this [iV p1] [iV v5, rV (some this)] rfl rfl k7 (mX2_isMinute s2 he9) YOK_X2_isMinute rfl q1973 q133 q1972 qs100 q1970 (Nat.le_of_ble_eq_true rfl) (Nat.le_of_ble_eq_true rfl) (Nat.le_of_ble_eq_true rfl) dX2_three_12 (st2 := [iV v8, iV v5, rV (some this)]) rfl) ?_
  clear he9
  refine kdg (fun k10 => ?_)
  refine bpg (fun v11 he12 => ?_)
  refine im (go_callV (pc := 15) (Y := YX2_three) (Yc := YX2_why) (y := yX2_why) (n := 2) (c0 := 2) (q := (RX2, TX2, 37)) this [iV v5, iV v8] [] rfl rfl k10 (mX2_why s2 he12) YOK_X2_why rfl q1977 q133 q1976 qs101 q1974 (Nat.le_of_ble_eq_true rfl) (Nat.le_of_ble_eq_true rfl) (Nat.le_of_ble_eq_true rfl) dX2_three_15 (st2 := [iV v11]) rfl) ?_
  clear he12
  refine im (go_istore_n (pc := 18) (Y := YX2_three) (ls2 := [(3, iV v11), (0, rV (some this)), (1, iV p0), (2, iV p1)]) dX2_three_18 rfl (Nat.le_of_ble_eq_true rfl) rfl) ?_
  refine im (go_iload_n (pc := 19) (Y := YX2_three) 0 dX2_three_19 rfl rfl) ?_
  refine flp2 (go_if_eq (pc := 20) (Y := YX2_three) 29 dX2_three_20 (by decide)) ?_ ?_
  · refine im (go_aload_n (pc := 29) (Y := YX2_three) 1 dX2_three_29 rfl rfl) ?_
    refine kdg (fun k13 => ?_)
    refine bpg (fun s14 he15 => ?_)
    refine im (go_callV (pc := 30) (Y := YX2_three) (Yc := YX2_asNow) (y := yX2_asNow) (n := 0) (c0 := 2) (q := (RX2, TX2, 37)) this [] [] rfl rfl k13 (mX2_asNow s2 he15) YOK_X2_asNow rfl q1981 q133 q1980 qs102 q1978 (Nat.le_of_ble_eq_true rfl) (Nat.le_of_ble_eq_true rfl) (Nat.le_of_ble_eq_true rfl) dX2_three_30 (st2 := []) rfl) ?_
    clear he15
    refine im (go_aload_n (pc := 33) (Y := YX2_three) 1 dX2_three_33 rfl rfl) ?_
    refine im (go_iload_n (pc := 34) (Y := YX2_three) 2 dX2_three_34 rfl rfl) ?_
    refine im (go_iload_n (pc := 35) (Y := YX2_three) 3 dX2_three_35 rfl rfl) ?_
    refine kdg (fun k16 => ?_)
    refine bpg (fun v17 he18 => ?_)
    refine im (go_callV (pc := 36) (Y := YX2_three) (Yc := YX2_watchersOf) (y := yX2_watchersOf) (n := 2) (c0 := 2) (q := (RX2, TX2, 37)) this [iV p0, iV p1] [] rfl rfl k16 (mX2_watchersOf s14 he18) YOK_X2_watchersOf rfl q2008 q133 q2007 qs106 q2005 (Nat.le_of_ble_eq_true rfl) (Nat.le_of_ble_eq_true rfl) (Nat.le_of_ble_eq_true rfl) dX2_three_36 (st2 := [iV v17]) rfl) ?_
    clear he18
    refine im (go_istore (pc := 39) (Y := YX2_three) (ls2 := [(4, iV v17), (3, iV v11), (0, rV (some this)), (1, iV p0), (2, iV p1)]) dX2_three_39 (Nat.le_of_ble_eq_true rfl) rfl) ?_
    refine im (go_bipush (pc := 41) (Y := YX2_three) (v := -2) dX2_three_41 rfl) ?_
    refine im (go_istore (pc := 43) (Y := YX2_three) (ls2 := [(5, iV (-2)), (4, iV v17), (3, iV v11), (0, rV (some this)), (1, iV p0), (2, iV p1)]) dX2_three_43 (Nat.le_of_ble_eq_true rfl) rfl) ?_
    refine im (go_iconst (pc := 45) (Y := YX2_three) (v := 0) dX2_three_45 rfl) ?_
    refine im (go_istore (pc := 46) (Y := YX2_three) (ls2 := [(6, iV 0), (5, iV (-2)), (4, iV v17), (3, iV v11), (0, rV (some this)), (1, iV p0), (2, iV p1)]) dX2_three_46 (Nat.le_of_ble_eq_true rfl) rfl) ?_
    refine bpg (fun v35 he36 h37 => ?_)
    refine go_sub [4, 2, 1, 0] rfl (sX2_three_L48_go s14 this v17 FU _ _ _ he36 ?_)
    clear he36
    revert h37
    refine im (go_iload (pc := 110) (Y := YX2_three) 0 dX2_three_110 rfl) ?_
    refine e2 (fun q0 q1 => ?_)
    subst q0
    subst q1
    exact go_iret (pc := 112) (Y := YX2_three) rfl dX2_three_112
  · refine im (go_aload_n (pc := 23) (Y := YX2_three) 1 dX2_three_23 rfl rfl) ?_
    refine im (go_iload_n (pc := 24) (Y := YX2_three) 0 dX2_three_24 rfl rfl) ?_
    refine kdg (fun k38 => ?_)
    refine bdg (fun s39 v40 he41 => ?_)
    refine im (go_callV (pc := 25) (Y := YX2_three) (Yc := YX2_no) (y := yX2_no) (n := 1) (c0 := 2) (q := (RX2, TX2, 37)) this [iV v11] [] rfl rfl k38 (mX2_no s2 he41) YOK_X2_no rfl q1767 q133 q1766 qs67 q1764 (Nat.le_of_ble_eq_true rfl) (Nat.le_of_ble_eq_true rfl) (Nat.le_of_ble_eq_true rfl) dX2_three_25 (st2 := [iV v40]) rfl) ?_
    clear he41
    refine e2 (fun q0 q1 => ?_)
    subst q0
    subst q1
    exact go_iret (pc := 28) (Y := YX2_three) rfl dX2_three_28
abbrev YX2_saysOf : mY := (RX2, cX2_saysOf, 3, (Option.some .int), 0, 0, false)
theorem YOK_X2_saysOf : YOK yX2_saysOf 3 := ⟨⟨by decide +kernel, by decide +kernel⟩, by decide +kernel⟩
theorem mX2_saysOf {G : gG} (s0 : St) {p0 : Int32} {p1 : Int32} {p2 : Int32} {vE : Int32} (h : sX2_saysOf s0 p0 p1 p2 = some vE) : Mt G YX2_saysOf yX2_saysOf [iV p0, iV p1, iV p2] s0 (some (iV vE)) s0 := by
  refine go_start (ls0 := [(0, iV p0), (1, iV p1), (2, iV p2)]) (by decide +kernel) rfl (fun h => by cases h) (Nat.le_of_ble_eq_true rfl) rfl ?_
  revert h
  unfold sX2_saysOf
  refine im (go_iload_n (pc := 0) (Y := YX2_saysOf) 1 dX2_saysOf_0 rfl rfl) ?_
  refine flp2 (go_if_eq (pc := 1) (Y := YX2_saysOf) 18 dX2_saysOf_1 (by decide)) ?_ ?_
  · refine im (go_iload_n (pc := 18) (Y := YX2_saysOf) 2 dX2_saysOf_18 rfl rfl) ?_
    refine flp2 (go_if_eq (pc := 19) (Y := YX2_saysOf) 27 dX2_saysOf_19 (by decide)) ?_ ?_
    · refine im (go_iconst (pc := 27) (Y := YX2_saysOf) (v := 2) dX2_saysOf_27 rfl) ?_
      refine e1 (fun q0 => ?_)
      subst q0
      exact go_iret (pc := 28) (Y := YX2_saysOf) rfl dX2_saysOf_28
    · refine im (go_iload_n (pc := 22) (Y := YX2_saysOf) 0 dX2_saysOf_22 rfl rfl) ?_
      refine im (go_ineg (pc := 23) (Y := YX2_saysOf) dX2_saysOf_23) ?_
      refine im (go_goto (pc := 24) (Y := YX2_saysOf) 28 dX2_saysOf_24 (by decide)) ?_
      refine e1 (fun q0 => ?_)
      subst q0
      exact go_iret (pc := 28) (Y := YX2_saysOf) rfl dX2_saysOf_28
  · refine im (go_iload_n (pc := 4) (Y := YX2_saysOf) 2 dX2_saysOf_4 rfl rfl) ?_
    refine flp2 (go_if_eq (pc := 5) (Y := YX2_saysOf) 14 dX2_saysOf_5 (by decide)) ?_ ?_
    · refine im (go_iconst (pc := 14) (Y := YX2_saysOf) (v := 4) dX2_saysOf_14 rfl) ?_
      refine im (go_goto (pc := 15) (Y := YX2_saysOf) 28 dX2_saysOf_15 (by decide)) ?_
      refine e1 (fun q0 => ?_)
      subst q0
      exact go_iret (pc := 28) (Y := YX2_saysOf) rfl dX2_saysOf_28
    · refine im (go_iconst (pc := 8) (Y := YX2_saysOf) (v := 1) dX2_saysOf_8 rfl) ?_
      refine im (go_iload_n (pc := 9) (Y := YX2_saysOf) 0 dX2_saysOf_9 rfl rfl) ?_
      refine im (go_isub (pc := 10) (Y := YX2_saysOf) dX2_saysOf_10) ?_
      refine im (go_goto (pc := 11) (Y := YX2_saysOf) 28 dX2_saysOf_11 (by decide)) ?_
      refine e1 (fun q0 => ?_)
      subst q0
      exact go_iret (pc := 28) (Y := YX2_saysOf) rfl dX2_saysOf_28
abbrev YX2_says : mY := (RX2, cX2_says, 6, (Option.some .int), 1, 22, false)
theorem YOK_X2_says : YOK yX2_says 4 := ⟨⟨by decide +kernel, by decide +kernel⟩, by decide +kernel⟩
theorem mX2_says {G : gG} (s0 : St) {this : Nat} {p0 : Int32} {p1 : Int32} {p2 : Int32} {p3 : Int32} {sE : St} {vE : Int32} (h : sX2_says s0 this p0 p1 p2 p3 = some (sE, vE)) : Mt G YX2_says yX2_says [rV (some this), iV p0, iV p1, iV p2, iV p3] s0 (some (iV vE)) sE := by
  refine go_start (ls0 := [(0, rV (some this)), (1, iV p0), (2, iV p1), (3, iV p2), (4, iV p3)]) (by decide +kernel) rfl (fun h => by cases h) (Nat.le_of_ble_eq_true rfl) rfl ?_
  revert h
  unfold sX2_says
  refine im (go_aload_n (pc := 0) (Y := YX2_says) 0 dX2_says_0 rfl rfl) ?_
  refine kdg (fun k1 => ?_)
  refine bpg (fun s2 he3 => ?_)
  refine im (go_callV (pc := 1) (Y := YX2_says) (Yc := YX2_good) (y := yX2_good) (n := 0) (c0 := 2) (q := (RX2, TX2, 37)) this [] [] rfl rfl k1 (mX2_good s0 he3) YOK_X2_good rfl q1760 q133 q1759 qs66 q1757 (Nat.le_of_ble_eq_true rfl) (Nat.le_of_ble_eq_true rfl) (Nat.le_of_ble_eq_true rfl) dX2_says_1 (st2 := []) rfl) ?_
  clear he3
  refine im (go_aload_n (pc := 4) (Y := YX2_says) 0 dX2_says_4 rfl rfl) ?_
  refine im (go_aload_n (pc := 5) (Y := YX2_says) 0 dX2_says_5 rfl rfl) ?_
  refine flp (go_gI (pc := 6) (Y := YX2_says) fF31 (by decide) q1647 (Or.inl rfl) dX2_says_6) (fun v4 => ?_)
  refine im (go_iload_n (pc := 9) (Y := YX2_says) 1 dX2_says_9 rfl rfl) ?_
  refine im (go_iconst (pc := 10) (Y := YX2_says) (v := 0) dX2_says_10 rfl) ?_
  refine im (go_bipush (pc := 11) (Y := YX2_says) (v := 9) dX2_says_11 rfl) ?_
  refine bpg (fun v5 he6 => ?_)
  refine im (go_callS (pc := 13) (Y := YX2_says) (Yc := YX2_in) (y := yX2_in) (n := 3) [iV p0, iV 0, iV 9] [iV v4, rV (some this)] rfl (mX2_in s2 he6) YOK_X2_in rfl q1763 q133 q1762 q1761 (Nat.le_of_ble_eq_true rfl) (Nat.le_of_ble_eq_true rfl) (Nat.le_of_ble_eq_true rfl) dX2_says_13 (st2 := [iV v5, iV v4, rV (some this)]) rfl) ?_
  clear he6
  refine kdg (fun k7 => ?_)
  refine bpg (fun v8 he9 => ?_)
  refine im (go_callV (pc := 16) (Y := YX2_says) (Yc := YX2_why) (y := yX2_why) (n := 2) (c0 := 2) (q := (RX2, TX2, 37)) this [iV v4, iV v5] [] rfl rfl k7 (mX2_why s2 he9) YOK_X2_why rfl q1977 q133 q1976 qs101 q1974 (Nat.le_of_ble_eq_true rfl) (Nat.le_of_ble_eq_true rfl) (Nat.le_of_ble_eq_true rfl) dX2_says_16 (st2 := [iV v8]) rfl) ?_
  clear he9
  refine im (go_istore (pc := 19) (Y := YX2_says) (ls2 := [(5, iV v8), (0, rV (some this)), (1, iV p0), (2, iV p1), (3, iV p2), (4, iV p3)]) dX2_says_19 (Nat.le_of_ble_eq_true rfl) rfl) ?_
  refine im (go_iload (pc := 21) (Y := YX2_says) 0 dX2_says_21 rfl) ?_
  refine flp2 (go_if_ne (pc := 23) (Y := YX2_says) 47 dX2_says_23 (by decide)) ?_ ?_
  · refine im (go_iload (pc := 26) (Y := YX2_says) 5 dX2_says_26 rfl) ?_
    refine flp2 (go_if_eq (pc := 28) (Y := YX2_says) 40 dX2_says_28 (by decide)) ?_ ?_
    · refine im (go_iload_n (pc := 40) (Y := YX2_says) 2 dX2_says_40 rfl rfl) ?_
      refine im (go_iload_n (pc := 41) (Y := YX2_says) 3 dX2_says_41 rfl rfl) ?_
      refine im (go_iload_n (pc := 42) (Y := YX2_says) 4 dX2_says_42 rfl rfl) ?_
      refine bpg (fun v10 he11 => ?_)
      refine im (go_callS (pc := 43) (Y := YX2_says) (Yc := YX2_saysOf) (y := yX2_saysOf) (n := 3) [iV p0, iV p1, iV p2] [] rfl (mX2_saysOf s2 he11) YOK_X2_saysOf rfl q2198 q133 q2197 q2196 (Nat.le_of_ble_eq_true rfl) (Nat.le_of_ble_eq_true rfl) (Nat.le_of_ble_eq_true rfl) dX2_says_43 (st2 := [iV v10]) rfl) ?_
      clear he11
      refine e2 (fun q0 q1 => ?_)
      subst q0
      subst q1
      exact go_iret (pc := 46) (Y := YX2_says) rfl dX2_says_46
    · refine im (go_iload_n (pc := 31) (Y := YX2_says) 2 dX2_says_31 rfl rfl) ?_
      refine im (go_iload_n (pc := 32) (Y := YX2_says) 4 dX2_says_32 rfl rfl) ?_
      refine im (go_iload_n (pc := 33) (Y := YX2_says) 3 dX2_says_33 rfl rfl) ?_
      refine bpg (fun v12 he13 => ?_)
      refine im (go_callS (pc := 34) (Y := YX2_says) (Yc := YX2_saysOf) (y := yX2_saysOf) (n := 3) [iV p0, iV p2, iV p1] [] rfl (mX2_saysOf s2 he13) YOK_X2_saysOf rfl q2198 q133 q2197 q2196 (Nat.le_of_ble_eq_true rfl) (Nat.le_of_ble_eq_true rfl) (Nat.le_of_ble_eq_true rfl) dX2_says_34 (st2 := [iV v12]) rfl) ?_
      clear he13
      refine im (go_goto (pc := 37) (Y := YX2_says) 46 dX2_says_37 (by decide)) ?_
      refine e2 (fun q0 q1 => ?_)
      subst q0
      subst q1
      exact go_iret (pc := 46) (Y := YX2_says) rfl dX2_says_46
  · refine im (go_aload_n (pc := 47) (Y := YX2_says) 1 dX2_says_47 rfl rfl) ?_
    refine im (go_iload (pc := 48) (Y := YX2_says) 0 dX2_says_48 rfl) ?_
    refine flp (go_pI (pc := 50) (Y := YX2_says) fF29 (by decide) q1644 (Or.inl rfl) (Or.inl rfl) rfl rfl rfl dX2_says_50) (fun s14 => ?_)
    refine im (go_bipush (pc := 53) (Y := YX2_says) (v := -100) dX2_says_53 rfl) ?_
    refine e2 (fun q0 q1 => ?_)
    subst q0
    subst q1
    exact go_iret (pc := 55) (Y := YX2_says) rfl dX2_says_55
abbrev YX2_seekRests : mY := (RX2, cX2_seekRests, 6, (Option.some .int), 1, 22, false)
theorem YOK_X2_seekRests : YOK yX2_seekRests 1 := ⟨⟨by decide +kernel, by decide +kernel⟩, by decide +kernel⟩
theorem sX2_seekRests_L10_go {G : gG} {s0 sE : St} {rE : Option V3} (this : Nat) (i1 : Int32) : ∀ (n : Nat) (s2 : St) (v3 : Int32) (v4 : Int32) (s5 : St) (v6 : Int32), sX2_seekRests_L10 this i1 n s2 v3 v4 = some (s5, v6) → Go G YX2_seekRests s0 sE rE 125 [(2, iV v6)] [] s5 → Go G YX2_seekRests s0 sE rE 10 [(0, rV (some this)), (1, iV i1), (2, iV v3), (3, iV v4)] [] s2 := by
  intro n
  induction n with
  | zero => intro s2 v3 v4 s5 v6 h hx; rw [sX2_seekRests_L10] at h; cases h
  | succ n ih =>
    intro s2 v3 v4 s5 v6 h hx
    revert h
    rw [sX2_seekRests_L10]
    refine im (go_iload_n (pc := 10) (Y := YX2_seekRests) 3 dX2_seekRests_10 rfl rfl) ?_
    refine im (go_iconst (pc := 11) (Y := YX2_seekRests) (v := 4) dX2_seekRests_11 rfl) ?_
    refine flp2 (go_icmp_ge (pc := 12) (Y := YX2_seekRests) 125 dX2_seekRests_12 (by decide)) ?_ ?_
    · refine e2 (fun q0 q1 => ?_)
      subst q0
      subst q1
      exact go_sub [2] rfl hx
    · refine im (go_iload_n (pc := 15) (Y := YX2_seekRests) 3 dX2_seekRests_15 rfl rfl) ?_
      refine im (go_iconst (pc := 16) (Y := YX2_seekRests) (v := 1) dX2_seekRests_16 rfl) ?_
      refine bpg (fun v7 he33 h34 => ?_)
      have hj25 : Go G YX2_seekRests s0 sE rE 25 [(0, rV (some this)), (1, iV i1), (2, iV v3), (3, iV v4)] [iV v7] s2 := by
        clear he33
        revert h34
        refine im (go_istore (pc := 25) (Y := YX2_seekRests) (ls2 := [(4, iV v7), (0, rV (some this)), (1, iV i1), (2, iV v3), (3, iV v4)]) dX2_seekRests_25 (Nat.le_of_ble_eq_true rfl) rfl) ?_
        refine im (go_iload_n (pc := 27) (Y := YX2_seekRests) 4 dX2_seekRests_27 rfl rfl) ?_
        refine im (go_iconst (pc := 28) (Y := YX2_seekRests) (v := 2) dX2_seekRests_28 rfl) ?_
        refine flp (go_irem (pc := 29) (Y := YX2_seekRests) dX2_seekRests_29) (fun h => ?_)
        revert h
        refine im (go_iconst (pc := 30) (Y := YX2_seekRests) (v := 1) dX2_seekRests_30 rfl) ?_
        refine bpg (fun v8 he31 h32 => ?_)
        have hj39 : Go G YX2_seekRests s0 sE rE 39 [(0, rV (some this)), (1, iV i1), (2, iV v3), (3, iV v4), (4, iV v7)] [iV v8] s2 := by
          clear he31
          revert h32
          refine im (go_istore (pc := 39) (Y := YX2_seekRests) (ls2 := [(5, iV v8), (0, rV (some this)), (1, iV i1), (2, iV v3), (3, iV v4), (4, iV v7)]) dX2_seekRests_39 (Nat.le_of_ble_eq_true rfl) rfl) ?_
          refine im (go_iload_n (pc := 41) (Y := YX2_seekRests) 2 dX2_seekRests_41 rfl rfl) ?_
          refine im (go_iload (pc := 42) (Y := YX2_seekRests) 5 dX2_seekRests_42 rfl) ?_
          refine bpg (fun v9 he29 h30 => ?_)
          have hj52 : Go G YX2_seekRests s0 sE rE 52 [(0, rV (some this)), (1, iV i1), (2, iV v3), (3, iV v4), (4, iV v7), (5, iV v8)] [iV v9, iV i1] s2 := by
            clear he29
            revert h30
            refine im (go_iload (pc := 52) (Y := YX2_seekRests) 5 dX2_seekRests_52 rfl) ?_
            refine bpg (fun v10 he11 => ?_)
            refine im (go_callS (pc := 54) (Y := YX2_seekRests) (Yc := YX2_saysOf) (y := yX2_saysOf) (n := 3) [iV i1, iV v9, iV v8] [] rfl (mX2_saysOf s2 he11) YOK_X2_saysOf rfl q2198 q133 q2197 q2196 (Nat.le_of_ble_eq_true rfl) (Nat.le_of_ble_eq_true rfl) (Nat.le_of_ble_eq_true rfl) dX2_seekRests_54 (st2 := [iV v10]) rfl) ?_
            clear he11
            refine im (go_iload_n (pc := 57) (Y := YX2_seekRests) 1 dX2_seekRests_57 rfl rfl) ?_
            refine im (go_iload (pc := 58) (Y := YX2_seekRests) 4 dX2_seekRests_58 rfl) ?_
            refine im (go_iload (pc := 60) (Y := YX2_seekRests) 5 dX2_seekRests_60 rfl) ?_
            refine bpg (fun v12 he13 => ?_)
            refine im (go_callS (pc := 62) (Y := YX2_seekRests) (Yc := YX2_saysOf) (y := yX2_saysOf) (n := 3) [iV i1, iV v7, iV v8] [iV v10] rfl (mX2_saysOf s2 he13) YOK_X2_saysOf rfl q2198 q133 q2197 q2196 (Nat.le_of_ble_eq_true rfl) (Nat.le_of_ble_eq_true rfl) (Nat.le_of_ble_eq_true rfl) dX2_seekRests_62 (st2 := [iV v12, iV v10]) rfl) ?_
            clear he13
            refine b2g (fun s14 v15 he27 h28 => ?_)
            have hj119 : Go G YX2_seekRests s0 sE rE 119 [(0, rV (some this)), (1, iV i1), (2, iV v15), (3, iV v4)] [] s14 := by
              clear he27
              revert h28
              refine im (go_iinc (pc := 119) (Y := YX2_seekRests) 3 (v := (v4 + 1)) (ls2 := [(3, iV (v4 + 1)), (0, rV (some this)), (1, iV i1), (2, iV v15)]) dX2_seekRests_119 rfl rfl (Nat.le_of_ble_eq_true rfl) rfl) ?_
              refine im (go_goto (pc := 122) (Y := YX2_seekRests) 10 dX2_seekRests_122 (by decide)) ?_
              exact fun hq => go_sub [1, 2, 3, 0] rfl (ih _ _ _ _ _ hq hx)
            clear h28
            revert he27
            refine flp2 (go_icmp_gt (pc := 65) (Y := YX2_seekRests) 119 dX2_seekRests_65 (by decide)) ?_ ?_
            · refine e2 (fun q0 q1 => ?_)
              subst q0
              subst q1
              exact go_sub [0, 1, 2, 3] rfl hj119
            · refine im (go_iload_n (pc := 68) (Y := YX2_seekRests) 1 dX2_seekRests_68 rfl rfl) ?_
              refine im (go_iload (pc := 69) (Y := YX2_seekRests) 5 dX2_seekRests_69 rfl) ?_
              refine bpg (fun v16 he25 h26 => ?_)
              have hj79 : Go G YX2_seekRests s0 sE rE 79 [(0, rV (some this)), (1, iV i1), (2, iV v3), (3, iV v4), (4, iV v7), (5, iV v8)] [iV v16, iV i1] s2 := by
                clear he25
                revert h26
                refine im (go_iload (pc := 79) (Y := YX2_seekRests) 4 dX2_seekRests_79 rfl) ?_
                refine bpg (fun v17 he18 => ?_)
                refine im (go_callS (pc := 81) (Y := YX2_seekRests) (Yc := YX2_saysOf) (y := yX2_saysOf) (n := 3) [iV i1, iV v16, iV v7] [] rfl (mX2_saysOf s2 he18) YOK_X2_saysOf rfl q2198 q133 q2197 q2196 (Nat.le_of_ble_eq_true rfl) (Nat.le_of_ble_eq_true rfl) (Nat.le_of_ble_eq_true rfl) dX2_seekRests_81 (st2 := [iV v17]) rfl) ?_
                clear he18
                refine im (go_iload_n (pc := 84) (Y := YX2_seekRests) 1 dX2_seekRests_84 rfl rfl) ?_
                refine im (go_iload (pc := 85) (Y := YX2_seekRests) 5 dX2_seekRests_85 rfl) ?_
                refine im (go_iload (pc := 87) (Y := YX2_seekRests) 4 dX2_seekRests_87 rfl) ?_
                refine bpg (fun v19 he20 => ?_)
                refine im (go_callS (pc := 89) (Y := YX2_seekRests) (Yc := YX2_saysOf) (y := yX2_saysOf) (n := 3) [iV i1, iV v8, iV v7] [iV v17] rfl (mX2_saysOf s2 he20) YOK_X2_saysOf rfl q2198 q133 q2197 q2196 (Nat.le_of_ble_eq_true rfl) (Nat.le_of_ble_eq_true rfl) (Nat.le_of_ble_eq_true rfl) dX2_seekRests_89 (st2 := [iV v19, iV v17]) rfl) ?_
                clear he20
                refine flp2 (go_icmp_le (pc := 92) (Y := YX2_seekRests) 98 dX2_seekRests_92 (by decide)) ?_ ?_
                · refine im (go_iload_n (pc := 98) (Y := YX2_seekRests) 2 dX2_seekRests_98 rfl rfl) ?_
                  refine bpg (fun s21 he23 h24 => ?_)
                  have hj116 : Go G YX2_seekRests s0 sE rE 116 [(0, rV (some this)), (1, iV i1), (2, iV v3), (3, iV v4)] [] s21 := by
                    clear he23
                    revert h24
                    refine im (go_iinc (pc := 116) (Y := YX2_seekRests) 2 (v := (v3 + 1)) (ls2 := [(2, iV (v3 + 1)), (0, rV (some this)), (1, iV i1), (3, iV v4)]) dX2_seekRests_116 rfl rfl (Nat.le_of_ble_eq_true rfl) rfl) ?_
                    refine e2 (fun q0 q1 => ?_)
                    subst q0
                    subst q1
                    exact go_sub [1, 2, 0, 3] rfl hj119
                  clear h24
                  revert he23
                  refine flp2 (go_if_ne (pc := 99) (Y := YX2_seekRests) 116 dX2_seekRests_99 (by decide)) ?_ ?_
                  · refine im (go_aload_n (pc := 102) (Y := YX2_seekRests) 0 dX2_seekRests_102 rfl rfl) ?_
                    refine im (go_bipush (pc := 103) (Y := YX2_seekRests) (v := 10) dX2_seekRests_103 rfl) ?_
                    refine im (go_iload_n (pc := 105) (Y := YX2_seekRests) 3 dX2_seekRests_105 rfl rfl) ?_
                    refine im (go_iconst (pc := 106) (Y := YX2_seekRests) (v := 2) dX2_seekRests_106 rfl) ?_
                    refine flp (go_idiv (pc := 107) (Y := YX2_seekRests) dX2_seekRests_107) (fun h => ?_)
                    revert h
                    refine im (go_imul (pc := 108) (Y := YX2_seekRests) dX2_seekRests_108) ?_
                    refine im (go_iload_n (pc := 109) (Y := YX2_seekRests) 3 dX2_seekRests_109 rfl rfl) ?_
                    refine im (go_iconst (pc := 110) (Y := YX2_seekRests) (v := 2) dX2_seekRests_110 rfl) ?_
                    refine flp (go_irem (pc := 111) (Y := YX2_seekRests) dX2_seekRests_111) (fun h => ?_)
                    revert h
                    refine im (go_iadd (pc := 112) (Y := YX2_seekRests) dX2_seekRests_112) ?_
                    refine flp (go_pI (pc := 113) (Y := YX2_seekRests) fF44 (by decide) q1669 (Or.inl rfl) (Or.inl rfl) rfl rfl rfl dX2_seekRests_113) (fun s22 => ?_)
                    refine e1 (fun q0 => ?_)
                    subst q0
                    exact go_sub [0, 1, 2, 3] rfl hj116
                  · refine e1 (fun q0 => ?_)
                    subst q0
                    exact go_sub [0, 1, 2, 3] rfl hj116
                · refine im (go_goto (pc := 95) (Y := YX2_seekRests) 119 dX2_seekRests_95 (by decide)) ?_
                  refine e2 (fun q0 q1 => ?_)
                  subst q0
                  subst q1
                  exact go_sub [0, 1, 2, 3] rfl hj119
              clear h26
              revert he25
              refine flp2 (go_if_ne (pc := 71) (Y := YX2_seekRests) 78 dX2_seekRests_71 (by decide)) ?_ ?_
              · refine im (go_iconst (pc := 74) (Y := YX2_seekRests) (v := 1) dX2_seekRests_74 rfl) ?_
                refine im (go_goto (pc := 75) (Y := YX2_seekRests) 79 dX2_seekRests_75 (by decide)) ?_
                refine e1 (fun q0 => ?_)
                subst q0
                exact go_sub [0, 1, 2, 3, 4, 5] rfl hj79
              · refine im (go_iconst (pc := 78) (Y := YX2_seekRests) (v := 0) dX2_seekRests_78 rfl) ?_
                refine e1 (fun q0 => ?_)
                subst q0
                exact go_sub [0, 1, 2, 3, 4, 5] rfl hj79
          clear h30
          revert he29
          refine flp2 (go_if_ne (pc := 44) (Y := YX2_seekRests) 51 dX2_seekRests_44 (by decide)) ?_ ?_
          · refine im (go_iconst (pc := 47) (Y := YX2_seekRests) (v := 1) dX2_seekRests_47 rfl) ?_
            refine im (go_goto (pc := 48) (Y := YX2_seekRests) 52 dX2_seekRests_48 (by decide)) ?_
            refine e1 (fun q0 => ?_)
            subst q0
            exact go_sub [1, 2, 3, 4, 5, 0] rfl hj52
          · refine im (go_iconst (pc := 51) (Y := YX2_seekRests) (v := 0) dX2_seekRests_51 rfl) ?_
            refine e1 (fun q0 => ?_)
            subst q0
            exact go_sub [1, 2, 3, 4, 5, 0] rfl hj52
        clear h32
        revert he31
        refine flp2 (go_icmp_ne (pc := 31) (Y := YX2_seekRests) 38 dX2_seekRests_31 (by decide)) ?_ ?_
        · refine im (go_iconst (pc := 34) (Y := YX2_seekRests) (v := 1) dX2_seekRests_34 rfl) ?_
          refine im (go_goto (pc := 35) (Y := YX2_seekRests) 39 dX2_seekRests_35 (by decide)) ?_
          refine e1 (fun q0 => ?_)
          subst q0
          exact go_sub [1, 2, 3, 4, 0] rfl hj39
        · refine im (go_iconst (pc := 38) (Y := YX2_seekRests) (v := 0) dX2_seekRests_38 rfl) ?_
          refine e1 (fun q0 => ?_)
          subst q0
          exact go_sub [1, 2, 3, 4, 0] rfl hj39
      clear h34
      revert he33
      refine flp2 (go_icmp_le (pc := 17) (Y := YX2_seekRests) 24 dX2_seekRests_17 (by decide)) ?_ ?_
      · refine im (go_iconst (pc := 24) (Y := YX2_seekRests) (v := 0) dX2_seekRests_24 rfl) ?_
        refine e1 (fun q0 => ?_)
        subst q0
        exact go_sub [0, 1, 2, 3] rfl hj25
      · refine im (go_iconst (pc := 20) (Y := YX2_seekRests) (v := 1) dX2_seekRests_20 rfl) ?_
        refine im (go_goto (pc := 21) (Y := YX2_seekRests) 25 dX2_seekRests_21 (by decide)) ?_
        refine e1 (fun q0 => ?_)
        subst q0
        exact go_sub [0, 1, 2, 3] rfl hj25
theorem mX2_seekRests {G : gG} (s0 : St) {this : Nat} {p0 : Int32} {sE : St} {vE : Int32} (h : sX2_seekRests s0 this p0 = some (sE, vE)) : Mt G YX2_seekRests yX2_seekRests [rV (some this), iV p0] s0 (some (iV vE)) sE := by
  refine go_start (ls0 := [(0, rV (some this)), (1, iV p0)]) (by decide +kernel) rfl (fun h => by cases h) (Nat.le_of_ble_eq_true rfl) rfl ?_
  revert h
  unfold sX2_seekRests
  refine im (go_iconst (pc := 0) (Y := YX2_seekRests) (v := 0) dX2_seekRests_0 rfl) ?_
  refine im (go_istore_n (pc := 1) (Y := YX2_seekRests) (ls2 := [(2, iV 0), (0, rV (some this)), (1, iV p0)]) dX2_seekRests_1 rfl (Nat.le_of_ble_eq_true rfl) rfl) ?_
  refine im (go_aload_n (pc := 2) (Y := YX2_seekRests) 1 dX2_seekRests_2 rfl rfl) ?_
  refine im (go_bipush (pc := 3) (Y := YX2_seekRests) (v := -2) dX2_seekRests_3 rfl) ?_
  refine flp (go_pI (pc := 5) (Y := YX2_seekRests) fF44 (by decide) q1669 (Or.inl rfl) (Or.inl rfl) rfl rfl rfl dX2_seekRests_5) (fun s1 => ?_)
  refine im (go_iconst (pc := 8) (Y := YX2_seekRests) (v := 0) dX2_seekRests_8 rfl) ?_
  refine im (go_istore_n (pc := 9) (Y := YX2_seekRests) (ls2 := [(3, iV 0), (2, iV 0), (0, rV (some this)), (1, iV p0)]) dX2_seekRests_9 rfl (Nat.le_of_ble_eq_true rfl) rfl) ?_
  refine b2g (fun s35 v36 he37 h38 => ?_)
  refine go_sub [2, 3, 1, 0] rfl (sX2_seekRests_L10_go this p0 FU _ _ _ _ _ he37 ?_)
  clear he37
  revert h38
  refine im (go_iload_n (pc := 125) (Y := YX2_seekRests) 0 dX2_seekRests_125 rfl rfl) ?_
  refine e2 (fun q0 q1 => ?_)
  subst q0
  subst q1
  exact go_iret (pc := 126) (Y := YX2_seekRests) rfl dX2_seekRests_126
abbrev YX2_rests : mY := (RX2, cX2_rests, 3, (Option.some .int), 2, 47, false)
theorem YOK_X2_rests : YOK yX2_rests 1 := ⟨⟨by decide +kernel, by decide +kernel⟩, by decide +kernel⟩
theorem mX2_rests {G : gG} (s0 : St) {this : Nat} {p0 : Int32} {sE : St} {vE : Int32} (h : sX2_rests s0 this p0 = some (sE, vE)) : Mt G YX2_rests yX2_rests [rV (some this), iV p0] s0 (some (iV vE)) sE := by
  refine go_start (ls0 := [(0, rV (some this)), (1, iV p0)]) (by decide +kernel) rfl (fun h => by cases h) (Nat.le_of_ble_eq_true rfl) rfl ?_
  revert h
  unfold sX2_rests
  refine im (go_aload_n (pc := 0) (Y := YX2_rests) 0 dX2_rests_0 rfl rfl) ?_
  refine kdg (fun k1 => ?_)
  refine bpg (fun s2 he3 => ?_)
  refine im (go_callV (pc := 1) (Y := YX2_rests) (Yc := YX2_good) (y := yX2_good) (n := 0) (c0 := 2) (q := (RX2, TX2, 37)) this [] [] rfl rfl k1 (mX2_good s0 he3) YOK_X2_good rfl q1760 q133 q1759 qs66 q1757 (Nat.le_of_ble_eq_true rfl) (Nat.le_of_ble_eq_true rfl) (Nat.le_of_ble_eq_true rfl) dX2_rests_1 (st2 := []) rfl) ?_
  clear he3
  refine im (go_aload_n (pc := 4) (Y := YX2_rests) 0 dX2_rests_4 rfl rfl) ?_
  refine im (go_aload_n (pc := 5) (Y := YX2_rests) 0 dX2_rests_5 rfl rfl) ?_
  refine flp (go_gI (pc := 6) (Y := YX2_rests) fF31 (by decide) q1647 (Or.inl rfl) dX2_rests_6) (fun v4 => ?_)
  refine im (go_iload_n (pc := 9) (Y := YX2_rests) 1 dX2_rests_9 rfl rfl) ?_
  refine im (go_iconst (pc := 10) (Y := YX2_rests) (v := 0) dX2_rests_10 rfl) ?_
  refine im (go_bipush (pc := 11) (Y := YX2_rests) (v := 9) dX2_rests_11 rfl) ?_
  refine bpg (fun v5 he6 => ?_)
  refine im (go_callS (pc := 13) (Y := YX2_rests) (Yc := YX2_in) (y := yX2_in) (n := 3) [iV p0, iV 0, iV 9] [iV v4, rV (some this)] rfl (mX2_in s2 he6) YOK_X2_in rfl q1763 q133 q1762 q1761 (Nat.le_of_ble_eq_true rfl) (Nat.le_of_ble_eq_true rfl) (Nat.le_of_ble_eq_true rfl) dX2_rests_13 (st2 := [iV v5, iV v4, rV (some this)]) rfl) ?_
  clear he6
  refine kdg (fun k7 => ?_)
  refine bpg (fun v8 he9 => ?_)
  refine im (go_callV (pc := 16) (Y := YX2_rests) (Yc := YX2_why) (y := yX2_why) (n := 2) (c0 := 2) (q := (RX2, TX2, 37)) this [iV v4, iV v5] [] rfl rfl k7 (mX2_why s2 he9) YOK_X2_why rfl q1977 q133 q1976 qs101 q1974 (Nat.le_of_ble_eq_true rfl) (Nat.le_of_ble_eq_true rfl) (Nat.le_of_ble_eq_true rfl) dX2_rests_16 (st2 := [iV v8]) rfl) ?_
  clear he9
  refine im (go_istore_n (pc := 19) (Y := YX2_rests) (ls2 := [(2, iV v8), (0, rV (some this)), (1, iV p0)]) dX2_rests_19 rfl (Nat.le_of_ble_eq_true rfl) rfl) ?_
  refine im (go_iload_n (pc := 20) (Y := YX2_rests) 0 dX2_rests_20 rfl rfl) ?_
  refine flp2 (go_if_eq (pc := 21) (Y := YX2_rests) 32 dX2_rests_21 (by decide)) ?_ ?_
  · refine im (go_aload_n (pc := 32) (Y := YX2_rests) 1 dX2_rests_32 rfl rfl) ?_
    refine im (go_iload_n (pc := 33) (Y := YX2_rests) 2 dX2_rests_33 rfl rfl) ?_
    refine kdg (fun k10 => ?_)
    refine bdg (fun s11 v12 he13 => ?_)
    refine im (go_callV (pc := 34) (Y := YX2_rests) (Yc := YX2_seekRests) (y := yX2_seekRests) (n := 1) (c0 := 2) (q := (RX2, TX2, 37)) this [iV p0] [] rfl rfl k10 (mX2_seekRests s2 he13) YOK_X2_seekRests rfl q2206 q133 q2205 qs122 q2203 (Nat.le_of_ble_eq_true rfl) (Nat.le_of_ble_eq_true rfl) (Nat.le_of_ble_eq_true rfl) dX2_rests_34 (st2 := [iV v12]) rfl) ?_
    clear he13
    refine e2 (fun q0 q1 => ?_)
    subst q0
    subst q1
    exact go_iret (pc := 37) (Y := YX2_rests) rfl dX2_rests_37
  · refine im (go_aload_n (pc := 24) (Y := YX2_rests) 1 dX2_rests_24 rfl rfl) ?_
    refine im (go_iload_n (pc := 25) (Y := YX2_rests) 0 dX2_rests_25 rfl rfl) ?_
    refine kdg (fun k14 => ?_)
    refine bdg (fun s15 v16 he17 => ?_)
    refine im (go_callV (pc := 26) (Y := YX2_rests) (Yc := YX2_no) (y := yX2_no) (n := 1) (c0 := 2) (q := (RX2, TX2, 37)) this [iV v8] [] rfl rfl k14 (mX2_no s2 he17) YOK_X2_no rfl q1767 q133 q1766 qs67 q1764 (Nat.le_of_ble_eq_true rfl) (Nat.le_of_ble_eq_true rfl) (Nat.le_of_ble_eq_true rfl) dX2_rests_26 (st2 := [iV v16]) rfl) ?_
    clear he17
    refine im (go_goto (pc := 29) (Y := YX2_rests) 37 dX2_rests_29 (by decide)) ?_
    refine e2 (fun q0 q1 => ?_)
    subst q0
    subst q1
    exact go_iret (pc := 37) (Y := YX2_rests) rfl dX2_rests_37
abbrev YX2_rest : mY := (RX2, cX2_rest, 3, (Option.some .int), 2, 47, false)
theorem YOK_X2_rest : YOK yX2_rest 1 := ⟨⟨by decide +kernel, by decide +kernel⟩, by decide +kernel⟩
theorem mX2_rest {G : gG} (s0 : St) {this : Nat} {p0 : Int32} {sE : St} {vE : Int32} (h : sX2_rest s0 this p0 = some (sE, vE)) : Mt G YX2_rest yX2_rest [rV (some this), iV p0] s0 (some (iV vE)) sE := by
  refine go_start (ls0 := [(0, rV (some this)), (1, iV p0)]) (by decide +kernel) rfl (fun h => by cases h) (Nat.le_of_ble_eq_true rfl) rfl ?_
  revert h
  unfold sX2_rest
  refine im (go_aload_n (pc := 0) (Y := YX2_rest) 0 dX2_rest_0 rfl rfl) ?_
  refine kdg (fun k1 => ?_)
  refine bpg (fun s2 he3 => ?_)
  refine im (go_callV (pc := 1) (Y := YX2_rest) (Yc := YX2_good) (y := yX2_good) (n := 0) (c0 := 2) (q := (RX2, TX2, 37)) this [] [] rfl rfl k1 (mX2_good s0 he3) YOK_X2_good rfl q1760 q133 q1759 qs66 q1757 (Nat.le_of_ble_eq_true rfl) (Nat.le_of_ble_eq_true rfl) (Nat.le_of_ble_eq_true rfl) dX2_rest_1 (st2 := []) rfl) ?_
  clear he3
  refine im (go_aload_n (pc := 4) (Y := YX2_rest) 0 dX2_rest_4 rfl rfl) ?_
  refine im (go_aload_n (pc := 5) (Y := YX2_rest) 0 dX2_rest_5 rfl rfl) ?_
  refine flp (go_gI (pc := 6) (Y := YX2_rest) fF31 (by decide) q1647 (Or.inl rfl) dX2_rest_6) (fun v4 => ?_)
  refine im (go_iload_n (pc := 9) (Y := YX2_rest) 1 dX2_rest_9 rfl rfl) ?_
  refine im (go_iconst (pc := 10) (Y := YX2_rest) (v := 0) dX2_rest_10 rfl) ?_
  refine im (go_bipush (pc := 11) (Y := YX2_rest) (v := 9) dX2_rest_11 rfl) ?_
  refine bpg (fun v5 he6 => ?_)
  refine im (go_callS (pc := 13) (Y := YX2_rest) (Yc := YX2_in) (y := yX2_in) (n := 3) [iV p0, iV 0, iV 9] [iV v4, rV (some this)] rfl (mX2_in s2 he6) YOK_X2_in rfl q1763 q133 q1762 q1761 (Nat.le_of_ble_eq_true rfl) (Nat.le_of_ble_eq_true rfl) (Nat.le_of_ble_eq_true rfl) dX2_rest_13 (st2 := [iV v5, iV v4, rV (some this)]) rfl) ?_
  clear he6
  refine kdg (fun k7 => ?_)
  refine bpg (fun v8 he9 => ?_)
  refine im (go_callV (pc := 16) (Y := YX2_rest) (Yc := YX2_why) (y := yX2_why) (n := 2) (c0 := 2) (q := (RX2, TX2, 37)) this [iV v4, iV v5] [] rfl rfl k7 (mX2_why s2 he9) YOK_X2_why rfl q1977 q133 q1976 qs101 q1974 (Nat.le_of_ble_eq_true rfl) (Nat.le_of_ble_eq_true rfl) (Nat.le_of_ble_eq_true rfl) dX2_rest_16 (st2 := [iV v8]) rfl) ?_
  clear he9
  refine im (go_istore_n (pc := 19) (Y := YX2_rest) (ls2 := [(2, iV v8), (0, rV (some this)), (1, iV p0)]) dX2_rest_19 rfl (Nat.le_of_ble_eq_true rfl) rfl) ?_
  refine im (go_iload_n (pc := 20) (Y := YX2_rest) 0 dX2_rest_20 rfl rfl) ?_
  refine flp2 (go_if_eq (pc := 21) (Y := YX2_rest) 30 dX2_rest_21 (by decide)) ?_ ?_
  · refine im (go_aload_n (pc := 30) (Y := YX2_rest) 1 dX2_rest_30 rfl rfl) ?_
    refine im (go_iload_n (pc := 31) (Y := YX2_rest) 2 dX2_rest_31 rfl rfl) ?_
    refine kdg (fun k10 => ?_)
    refine bdg (fun s11 v12 he13 => ?_)
    refine im (go_callV (pc := 32) (Y := YX2_rest) (Yc := YX2_seekRests) (y := yX2_seekRests) (n := 1) (c0 := 2) (q := (RX2, TX2, 37)) this [iV p0] [] rfl rfl k10 (mX2_seekRests s2 he13) YOK_X2_seekRests rfl q2206 q133 q2205 qs122 q2203 (Nat.le_of_ble_eq_true rfl) (Nat.le_of_ble_eq_true rfl) (Nat.le_of_ble_eq_true rfl) dX2_rest_32 (st2 := [iV v12]) rfl) ?_
    clear he13
    refine im (go_pop (pc := 35) (Y := YX2_rest) dX2_rest_35 rfl) ?_
    refine im (go_aload_n (pc := 36) (Y := YX2_rest) 1 dX2_rest_36 rfl rfl) ?_
    refine flp (go_gI (pc := 37) (Y := YX2_rest) fF44 (by decide) q1669 (Or.inl rfl) dX2_rest_37) (fun v14 => ?_)
    refine e2 (fun q0 q1 => ?_)
    subst q0
    subst q1
    exact go_iret (pc := 40) (Y := YX2_rest) rfl dX2_rest_40
  · refine im (go_aload_n (pc := 24) (Y := YX2_rest) 1 dX2_rest_24 rfl rfl) ?_
    refine im (go_iload_n (pc := 25) (Y := YX2_rest) 0 dX2_rest_25 rfl rfl) ?_
    refine kdg (fun k15 => ?_)
    refine bdg (fun s16 v17 he18 => ?_)
    refine im (go_callV (pc := 26) (Y := YX2_rest) (Yc := YX2_no) (y := yX2_no) (n := 1) (c0 := 2) (q := (RX2, TX2, 37)) this [iV v8] [] rfl rfl k15 (mX2_no s2 he18) YOK_X2_no rfl q1767 q133 q1766 qs67 q1764 (Nat.le_of_ble_eq_true rfl) (Nat.le_of_ble_eq_true rfl) (Nat.le_of_ble_eq_true rfl) dX2_rest_26 (st2 := [iV v17]) rfl) ?_
    clear he18
    refine e2 (fun q0 q1 => ?_)
    subst q0
    subst q1
    exact go_iret (pc := 29) (Y := YX2_rest) rfl dX2_rest_29
abbrev YX2_runWithBoys : mY := (RX2, cX2_runWithBoys, 2, (Option.none : Option Jvm.ClassFile.FieldType), 4, 96, false)
theorem YOK_X2_runWithBoys : YOK yX2_runWithBoys 1 := ⟨⟨by decide +kernel, by decide +kernel⟩, by decide +kernel⟩
theorem mX2_runWithBoys {G : gG} (s0 : St) {this : Nat} {p0 : Int32} {sE : St} (h : sX2_runWithBoys s0 this p0 = some sE) : Mt G YX2_runWithBoys yX2_runWithBoys [rV (some this), iV p0] s0 none sE := by
  refine go_start (ls0 := [(0, rV (some this)), (1, iV p0)]) (by decide +kernel) rfl (fun h => by cases h) (Nat.le_of_ble_eq_true rfl) rfl ?_
  revert h
  unfold sX2_runWithBoys
  refine im (go_aload_n (pc := 0) (Y := YX2_runWithBoys) 0 dX2_runWithBoys_0 rfl rfl) ?_
  refine im (go_iload_n (pc := 1) (Y := YX2_runWithBoys) 1 dX2_runWithBoys_1 rfl rfl) ?_
  refine im (go_aload_n (pc := 2) (Y := YX2_runWithBoys) 0 dX2_runWithBoys_2 rfl rfl) ?_
  refine flp (go_gR (pc := 3) (Y := YX2_runWithBoys) fF1011 (by decide) q1648 (Or.inl rfl) dX2_runWithBoys_3) (fun v1 => ?_)
  refine im (go_bipush (pc := 6) (Y := YX2_runWithBoys) (v := 80) dX2_runWithBoys_6 rfl) ?_
  refine im (go_iconst (pc := 8) (Y := YX2_runWithBoys) (v := 5) dX2_runWithBoys_8 rfl) ?_
  refine im (go_iload_n (pc := 9) (Y := YX2_runWithBoys) 1 dX2_runWithBoys_9 rfl rfl) ?_
  refine im (go_imul (pc := 10) (Y := YX2_runWithBoys) dX2_runWithBoys_10) ?_
  refine im (go_iadd (pc := 11) (Y := YX2_runWithBoys) dX2_runWithBoys_11) ?_
  refine im (go_iconst (pc := 12) (Y := YX2_runWithBoys) (v := 2) dX2_runWithBoys_12 rfl) ?_
  refine im (go_iadd (pc := 13) (Y := YX2_runWithBoys) dX2_runWithBoys_13) ?_
  refine flp (go_lI1 (pc := 14) (Y := YX2_runWithBoys) dX2_runWithBoys_14) (fun v2 => ?_)
  refine im (go_aload_n (pc := 15) (Y := YX2_runWithBoys) 0 dX2_runWithBoys_15 rfl rfl) ?_
  refine flp (go_gR (pc := 16) (Y := YX2_runWithBoys) fF1011 (by decide) q1648 (Or.inl rfl) dX2_runWithBoys_16) (fun v3 => ?_)
  refine im (go_bipush (pc := 19) (Y := YX2_runWithBoys) (v := 80) dX2_runWithBoys_19 rfl) ?_
  refine im (go_iconst (pc := 21) (Y := YX2_runWithBoys) (v := 5) dX2_runWithBoys_21 rfl) ?_
  refine im (go_iload_n (pc := 22) (Y := YX2_runWithBoys) 1 dX2_runWithBoys_22 rfl rfl) ?_
  refine im (go_imul (pc := 23) (Y := YX2_runWithBoys) dX2_runWithBoys_23) ?_
  refine im (go_iadd (pc := 24) (Y := YX2_runWithBoys) dX2_runWithBoys_24) ?_
  refine im (go_iconst (pc := 25) (Y := YX2_runWithBoys) (v := 3) dX2_runWithBoys_25 rfl) ?_
  refine im (go_iadd (pc := 26) (Y := YX2_runWithBoys) dX2_runWithBoys_26) ?_
  refine flp (go_lI1 (pc := 27) (Y := YX2_runWithBoys) dX2_runWithBoys_27) (fun v4 => ?_)
  refine im (go_iconst (pc := 28) (Y := YX2_runWithBoys) (v := 1) dX2_runWithBoys_28 rfl) ?_
  refine kdg (fun k5 => ?_)
  refine bpg (fun s6 he7 => ?_)
  refine im (go_callV (pc := 29) (Y := YX2_runWithBoys) (Yc := YX2_run) (y := yX2_run) (n := 4) (c0 := 2) (q := (RX2, TX2, 37)) this [iV p0, iV v2, iV v4, iV 1] [] rfl rfl k5 (mX2_run s0 he7) YOK_X2_run rfl q2044 q133 q2043 qs111 q2041 (Nat.le_of_ble_eq_true rfl) (Nat.le_of_ble_eq_true rfl) (Nat.le_of_ble_eq_true rfl) dX2_runWithBoys_29 (st2 := []) rfl) ?_
  clear he7
  refine e1 (fun q0 => ?_)
  subst q0
  exact go_vret (pc := 32) (Y := YX2_runWithBoys) rfl dX2_runWithBoys_32
abbrev YX2_lasts : mY := (RX2, cX2_lasts, 13, (Option.some .long), 5, 117, false)
theorem YOK_X2_lasts : YOK yX2_lasts 3 := ⟨⟨by decide +kernel, by decide +kernel⟩, by decide +kernel⟩
theorem sX2_lasts_L62_go {G : gG} {s0 sE : St} {rE : Option V3} (s22 : St) (this : Nat) (i1 : Int32) (i2 : Int32) (i3 : Int32) (i5 : Int64) (i7 : Int64) (i9 : Int32) : ∀ (n : Nat) (v23 : Int64) (v24 : Int32) (v25 : Int64), sX2_lasts_L62 s22 this i2 i9 n v23 v24 = some v25 → Go G YX2_lasts s0 sE rE 109 [(0, rV (some this)), (1, iV i1), (2, iV i2), (3, iV i3), (5, lV i5), (7, lV i7), (9, iV i9), (10, lV v25)] [] s22 → Go G YX2_lasts s0 sE rE 62 [(0, rV (some this)), (1, iV i1), (2, iV i2), (3, iV i3), (5, lV i5), (7, lV i7), (9, iV i9), (10, lV v23), (12, iV v24)] [] s22 := by
  intro n
  induction n with
  | zero => intro v23 v24 v25 h hx; rw [sX2_lasts_L62] at h; cases h
  | succ n ih =>
    intro v23 v24 v25 h hx
    revert h
    rw [sX2_lasts_L62]
    refine im (go_iload (pc := 62) (Y := YX2_lasts) 8 dX2_lasts_62 rfl) ?_
    refine im (go_iload_n (pc := 64) (Y := YX2_lasts) 2 dX2_lasts_64 rfl rfl) ?_
    refine flp2 (go_icmp_ge (pc := 65) (Y := YX2_lasts) 109 dX2_lasts_65 (by decide)) ?_ ?_
    · refine e1 (fun q0 => ?_)
      subst q0
      exact go_sub [0, 1, 2, 3, 4, 5, 6, 7] rfl hx
    · refine im (go_lload (pc := 68) (Y := YX2_lasts) 7 dX2_lasts_68 rfl) ?_
      refine im (go_iload (pc := 70) (Y := YX2_lasts) 6 dX2_lasts_70 rfl) ?_
      refine im (go_iload (pc := 72) (Y := YX2_lasts) 8 dX2_lasts_72 rfl) ?_
      refine bpg (fun v26 he27 => ?_)
      refine im (go_callS (pc := 74) (Y := YX2_lasts) (Yc := YX2_hasBit) (y := yX2_hasBit) (n := 2) [iV i9, iV v24] [lV v23] rfl (mX2_hasBit s22 he27) YOK_X2_hasBit rfl q2000 q133 q1999 q1998 (Nat.le_of_ble_eq_true rfl) (Nat.le_of_ble_eq_true rfl) (Nat.le_of_ble_eq_true rfl) dX2_lasts_74 (st2 := [iV v26, lV v23]) rfl) ?_
      clear he27
      refine bpg (fun v28 he33 h34 => ?_)
      have hj100 : Go G YX2_lasts s0 sE rE 100 [(0, rV (some this)), (1, iV i1), (2, iV i2), (3, iV i3), (5, lV i5), (7, lV i7), (9, iV i9), (12, iV v24)] [lV v28, lV v23] s22 := by
        clear he33
        revert h34
        refine im (go_lmul (pc := 100) (Y := YX2_lasts) dX2_lasts_100) ?_
        refine im (go_lstore (pc := 101) (Y := YX2_lasts) (ls2 := [(10, lV (v23 * v28)), (0, rV (some this)), (1, iV i1), (2, iV i2), (3, iV i3), (5, lV i5), (7, lV i7), (9, iV i9), (12, iV v24)]) dX2_lasts_101 (Nat.le_of_ble_eq_true rfl) rfl) ?_
        refine im (go_iinc (pc := 103) (Y := YX2_lasts) 8 (v := (v24 + 1)) (ls2 := [(12, iV (v24 + 1)), (10, lV (v23 * v28)), (0, rV (some this)), (1, iV i1), (2, iV i2), (3, iV i3), (5, lV i5), (7, lV i7), (9, iV i9)]) dX2_lasts_103 rfl rfl (Nat.le_of_ble_eq_true rfl) rfl) ?_
        refine im (go_goto (pc := 106) (Y := YX2_lasts) 62 dX2_lasts_106 (by decide)) ?_
        exact fun hq => go_sub [2, 3, 4, 5, 6, 7, 8, 1, 0] rfl (ih _ _ _ hq hx)
      clear h34
      revert he33
      refine flp2 (go_if_eq (pc := 77) (Y := YX2_lasts) 90 dX2_lasts_77 (by decide)) ?_ ?_
      · refine im (go_bipush (pc := 90) (Y := YX2_lasts) (v := 100) dX2_lasts_90 rfl) ?_
        refine im (go_aload_n (pc := 92) (Y := YX2_lasts) 0 dX2_lasts_92 rfl rfl) ?_
        refine flp (go_gR (pc := 93) (Y := YX2_lasts) fF1011 (by decide) q1648 (Or.inl rfl) dX2_lasts_93) (fun v29 => ?_)
        refine im (go_iconst (pc := 96) (Y := YX2_lasts) (v := 0) dX2_lasts_96 rfl) ?_
        refine flp (go_lI1 (pc := 97) (Y := YX2_lasts) dX2_lasts_97) (fun v30 => ?_)
        refine im (go_isub (pc := 98) (Y := YX2_lasts) dX2_lasts_98) ?_
        refine im (go_i2l (pc := 99) (Y := YX2_lasts) dX2_lasts_99) ?_
        refine e1 (fun q0 => ?_)
        subst q0
        exact go_sub [0, 1, 2, 3, 4, 5, 6, 8] rfl hj100
      · refine im (go_aload_n (pc := 80) (Y := YX2_lasts) 0 dX2_lasts_80 rfl rfl) ?_
        refine flp (go_gR (pc := 81) (Y := YX2_lasts) fF1011 (by decide) q1648 (Or.inl rfl) dX2_lasts_81) (fun v31 => ?_)
        refine im (go_iconst (pc := 84) (Y := YX2_lasts) (v := 0) dX2_lasts_84 rfl) ?_
        refine flp (go_lI1 (pc := 85) (Y := YX2_lasts) dX2_lasts_85) (fun v32 => ?_)
        refine im (go_i2l (pc := 86) (Y := YX2_lasts) dX2_lasts_86) ?_
        refine im (go_goto (pc := 87) (Y := YX2_lasts) 100 dX2_lasts_87 (by decide)) ?_
        refine e1 (fun q0 => ?_)
        subst q0
        exact go_sub [0, 1, 2, 3, 4, 5, 6, 8] rfl hj100
theorem sX2_lasts_L48_go {G : gG} {s0 sE : St} {rE : Option V3} (this : Nat) (i1 : Int32) (i2 : Int32) (i3 : Int32) : ∀ (n : Nat) (s15 : St) (v16 : Int64) (v17 : Int64) (v18 : Int32) (s19 : St) (v20 : Int64) (v21 : Int64), sX2_lasts_L48 this i1 i2 n s15 v16 v17 v18 = some (s19, v20, v21) → Go G YX2_lasts s0 sE rE 173 [(3, iV i3), (5, lV v20), (7, lV v21)] [] s19 → Go G YX2_lasts s0 sE rE 48 [(0, rV (some this)), (1, iV i1), (2, iV i2), (3, iV i3), (5, lV v16), (7, lV v17), (9, iV v18)] [] s15 := by
  intro n
  induction n with
  | zero => intro s15 v16 v17 v18 s19 v20 v21 h hx; rw [sX2_lasts_L48] at h; cases h
  | succ n ih =>
    intro s15 v16 v17 v18 s19 v20 v21 h hx
    revert h
    rw [sX2_lasts_L48]
    refine im (go_iload (pc := 48) (Y := YX2_lasts) 6 dX2_lasts_48 rfl) ?_
    refine im (go_iconst (pc := 50) (Y := YX2_lasts) (v := 1) dX2_lasts_50 rfl) ?_
    refine im (go_iload_n (pc := 51) (Y := YX2_lasts) 2 dX2_lasts_51 rfl rfl) ?_
    refine im (go_ishl (pc := 52) (Y := YX2_lasts) dX2_lasts_52) ?_
    refine flp2 (go_icmp_ge (pc := 53) (Y := YX2_lasts) 173 dX2_lasts_53 (by decide)) ?_ ?_
    · refine e3 (fun q0 q1 q2 => ?_)
      subst q0
      subst q1
      subst q2
      exact go_sub [3, 4, 5] rfl hx
    · refine im (go_lconst (pc := 56) (Y := YX2_lasts) (v := 1) dX2_lasts_56 rfl) ?_
      refine im (go_lstore (pc := 57) (Y := YX2_lasts) (ls2 := [(10, lV 1), (0, rV (some this)), (1, iV i1), (2, iV i2), (3, iV i3), (5, lV v16), (7, lV v17), (9, iV v18)]) dX2_lasts_57 (Nat.le_of_ble_eq_true rfl) rfl) ?_
      refine im (go_iconst (pc := 59) (Y := YX2_lasts) (v := 0) dX2_lasts_59 rfl) ?_
      refine im (go_istore (pc := 60) (Y := YX2_lasts) (ls2 := [(12, iV 0), (10, lV 1), (0, rV (some this)), (1, iV i1), (2, iV i2), (3, iV i3), (5, lV v16), (7, lV v17), (9, iV v18)]) dX2_lasts_60 (Nat.le_of_ble_eq_true rfl) rfl) ?_
      refine bpg (fun v35 he47 h48 => ?_)
      refine go_sub [2, 3, 4, 5, 6, 7, 8, 1, 0] rfl (sX2_lasts_L62_go s15 this i1 i2 i3 v16 v17 v18 FU _ _ _ he47 ?_)
      clear he47
      revert h48
      refine im (go_aload_n (pc := 109) (Y := YX2_lasts) 0 dX2_lasts_109 rfl rfl) ?_
      refine im (go_iload (pc := 110) (Y := YX2_lasts) 6 dX2_lasts_110 rfl) ?_
      refine flp (go_pI (pc := 112) (Y := YX2_lasts) fF39 (by decide) q1663 (Or.inl rfl) (Or.inl rfl) rfl rfl rfl dX2_lasts_112) (fun s36 => ?_)
      refine im (go_aload_n (pc := 115) (Y := YX2_lasts) 0 dX2_lasts_115 rfl rfl) ?_
      refine im (go_iload_n (pc := 116) (Y := YX2_lasts) 1 dX2_lasts_116 rfl rfl) ?_
      refine kdg (fun k37 => ?_)
      refine bpg (fun s38 he39 => ?_)
      refine im (go_callV (pc := 117) (Y := YX2_lasts) (Yc := YX2_runWithBoys) (y := yX2_runWithBoys) (n := 1) (c0 := 2) (q := (RX2, TX2, 37)) this [iV i1] [] rfl rfl k37 (mX2_runWithBoys s36 he39) YOK_X2_runWithBoys rfl q2218 q133 q2217 qs123 q2215 (Nat.le_of_ble_eq_true rfl) (Nat.le_of_ble_eq_true rfl) (Nat.le_of_ble_eq_true rfl) dX2_lasts_117 (st2 := []) rfl) ?_
      clear he39
      refine im (go_lload (pc := 120) (Y := YX2_lasts) 5 dX2_lasts_120 rfl) ?_
      refine im (go_lload (pc := 122) (Y := YX2_lasts) 7 dX2_lasts_122 rfl) ?_
      refine im (go_ladd (pc := 124) (Y := YX2_lasts) dX2_lasts_124) ?_
      refine im (go_lstore (pc := 125) (Y := YX2_lasts) (ls2 := [(7, lV (v17 + v35)), (0, rV (some this)), (1, iV i1), (2, iV i2), (3, iV i3), (5, lV v16), (9, iV v18), (10, lV v35)]) dX2_lasts_125 (Nat.le_of_ble_eq_true rfl) rfl) ?_
      refine im (go_lload (pc := 127) (Y := YX2_lasts) 5 dX2_lasts_127 rfl) ?_
      refine im (go_aload_n (pc := 129) (Y := YX2_lasts) 1 dX2_lasts_129 rfl rfl) ?_
      refine flp (go_gI (pc := 130) (Y := YX2_lasts) fF34 (by decide) q1658 (Or.inl rfl) dX2_lasts_130) (fun v40 => ?_)
      refine bpg (fun v41 he45 h46 => ?_)
      have hj164 : Go G YX2_lasts s0 sE rE 164 [(0, rV (some this)), (1, iV i1), (2, iV i2), (3, iV i3), (7, lV (v17 + v35)), (9, iV v18)] [lV v41, lV v16] s38 := by
        clear he45
        revert h46
        refine im (go_ladd (pc := 164) (Y := YX2_lasts) dX2_lasts_164) ?_
        refine im (go_lstore (pc := 165) (Y := YX2_lasts) (ls2 := [(5, lV (v16 + v41)), (0, rV (some this)), (1, iV i1), (2, iV i2), (3, iV i3), (7, lV (v17 + v35)), (9, iV v18)]) dX2_lasts_165 (Nat.le_of_ble_eq_true rfl) rfl) ?_
        refine im (go_iinc (pc := 167) (Y := YX2_lasts) 6 (v := (v18 + 1)) (ls2 := [(9, iV (v18 + 1)), (5, lV (v16 + v41)), (0, rV (some this)), (1, iV i1), (2, iV i2), (3, iV i3), (7, lV (v17 + v35))]) dX2_lasts_167 rfl rfl (Nat.le_of_ble_eq_true rfl) rfl) ?_
        refine im (go_goto (pc := 170) (Y := YX2_lasts) 48 dX2_lasts_170 (by decide)) ?_
        exact fun hq => go_sub [2, 3, 4, 5, 1, 6, 0] rfl (ih _ _ _ _ _ _ _ hq hx)
      clear h46
      revert he45
      refine flp2 (go_if_ne (pc := 133) (Y := YX2_lasts) 162 dX2_lasts_133 (by decide)) ?_ ?_
      · refine im (go_aload_n (pc := 136) (Y := YX2_lasts) 1 dX2_lasts_136 rfl rfl) ?_
        refine flp (go_gI (pc := 137) (Y := YX2_lasts) fF35 (by decide) q1659 (Or.inl rfl) dX2_lasts_137) (fun v42 => ?_)
        refine im (go_aload_n (pc := 140) (Y := YX2_lasts) 1 dX2_lasts_140 rfl rfl) ?_
        refine flp (go_gR (pc := 141) (Y := YX2_lasts) fF1011 (by decide) q1648 (Or.inl rfl) dX2_lasts_141) (fun v43 => ?_)
        refine im (go_bipush (pc := 144) (Y := YX2_lasts) (v := 80) dX2_lasts_144 rfl) ?_
        refine im (go_iconst (pc := 146) (Y := YX2_lasts) (v := 5) dX2_lasts_146 rfl) ?_
        refine im (go_iload_n (pc := 147) (Y := YX2_lasts) 2 dX2_lasts_147 rfl rfl) ?_
        refine im (go_imul (pc := 148) (Y := YX2_lasts) dX2_lasts_148) ?_
        refine im (go_iadd (pc := 149) (Y := YX2_lasts) dX2_lasts_149) ?_
        refine im (go_iconst (pc := 150) (Y := YX2_lasts) (v := 3) dX2_lasts_150 rfl) ?_
        refine im (go_iadd (pc := 151) (Y := YX2_lasts) dX2_lasts_151) ?_
        refine flp (go_lI1 (pc := 152) (Y := YX2_lasts) dX2_lasts_152) (fun v44 => ?_)
        refine im (go_iload_n (pc := 153) (Y := YX2_lasts) 3 dX2_lasts_153 rfl rfl) ?_
        refine im (go_iadd (pc := 154) (Y := YX2_lasts) dX2_lasts_154) ?_
        refine flp2 (go_icmp_ge (pc := 155) (Y := YX2_lasts) 162 dX2_lasts_155 (by decide)) ?_ ?_
        · refine im (go_lload (pc := 162) (Y := YX2_lasts) 7 dX2_lasts_162 rfl) ?_
          refine e1 (fun q0 => ?_)
          subst q0
          exact go_sub [1, 2, 3, 4, 0, 6] rfl hj164
        · refine im (go_lconst (pc := 158) (Y := YX2_lasts) (v := 0) dX2_lasts_158 rfl) ?_
          refine im (go_goto (pc := 159) (Y := YX2_lasts) 164 dX2_lasts_159 (by decide)) ?_
          refine e1 (fun q0 => ?_)
          subst q0
          exact go_sub [1, 2, 3, 4, 0, 6] rfl hj164
      · refine im (go_lload (pc := 162) (Y := YX2_lasts) 7 dX2_lasts_162 rfl) ?_
        refine e1 (fun q0 => ?_)
        subst q0
        exact go_sub [1, 2, 3, 4, 0, 6] rfl hj164
theorem mX2_lasts {G : gG} (s0 : St) {this : Nat} {p0 : Int32} {p1 : Int32} {p2 : Int32} {sE : St} {vE : Int64} (h : sX2_lasts s0 this p0 p1 p2 = some (sE, vE)) : Mt G YX2_lasts yX2_lasts [rV (some this), iV p0, iV p1, iV p2] s0 (some (lV vE)) sE := by
  refine go_start (ls0 := [(0, rV (some this)), (1, iV p0), (2, iV p1), (3, iV p2)]) (by decide +kernel) rfl (fun h => by cases h) (Nat.le_of_ble_eq_true rfl) rfl ?_
  revert h
  unfold sX2_lasts
  refine im (go_aload_n (pc := 0) (Y := YX2_lasts) 0 dX2_lasts_0 rfl rfl) ?_
  refine kdg (fun k1 => ?_)
  refine bpg (fun s2 he3 => ?_)
  refine im (go_callV (pc := 1) (Y := YX2_lasts) (Yc := YX2_good) (y := yX2_good) (n := 0) (c0 := 2) (q := (RX2, TX2, 37)) this [] [] rfl rfl k1 (mX2_good s0 he3) YOK_X2_good rfl q1760 q133 q1759 qs66 q1757 (Nat.le_of_ble_eq_true rfl) (Nat.le_of_ble_eq_true rfl) (Nat.le_of_ble_eq_true rfl) dX2_lasts_1 (st2 := []) rfl) ?_
  clear he3
  refine im (go_aload_n (pc := 4) (Y := YX2_lasts) 0 dX2_lasts_4 rfl rfl) ?_
  refine im (go_aload_n (pc := 5) (Y := YX2_lasts) 0 dX2_lasts_5 rfl rfl) ?_
  refine im (go_iload_n (pc := 6) (Y := YX2_lasts) 1 dX2_lasts_6 rfl rfl) ?_
  refine kdg (fun k4 => ?_)
  refine bpg (fun v5 he6 => ?_)
  refine im (go_callV (pc := 7) (Y := YX2_lasts) (Yc := YX2_isQuarrel) (y := yX2_isQuarrel) (n := 1) (c0 := 2) (q := (RX2, TX2, 37)) this [iV p0] [rV (some this)] rfl rfl k4 (mX2_isQuarrel s2 he6) YOK_X2_isQuarrel rfl q1965 q133 q1964 qs99 q1962 (Nat.le_of_ble_eq_true rfl) (Nat.le_of_ble_eq_true rfl) (Nat.le_of_ble_eq_true rfl) dX2_lasts_7 (st2 := [iV v5, rV (some this)]) rfl) ?_
  clear he6
  refine im (go_iload_n (pc := 10) (Y := YX2_lasts) 2 dX2_lasts_10 rfl rfl) ?_
  refine im (go_iconst (pc := 11) (Y := YX2_lasts) (v := 0) dX2_lasts_11 rfl) ?_
  refine im (go_bipush (pc := 12) (Y := YX2_lasts) (v := 6) dX2_lasts_12 rfl) ?_
  refine bpg (fun v7 he8 => ?_)
  refine im (go_callS (pc := 14) (Y := YX2_lasts) (Yc := YX2_in) (y := yX2_in) (n := 3) [iV p1, iV 0, iV 6] [iV v5, rV (some this)] rfl (mX2_in s2 he8) YOK_X2_in rfl q1763 q133 q1762 q1761 (Nat.le_of_ble_eq_true rfl) (Nat.le_of_ble_eq_true rfl) (Nat.le_of_ble_eq_true rfl) dX2_lasts_14 (st2 := [iV v7, iV v5, rV (some this)]) rfl) ?_
  clear he8
  refine kdg (fun k9 => ?_)
  refine bpg (fun v10 he11 => ?_)
  refine im (go_callV (pc := 17) (Y := YX2_lasts) (Yc := YX2_why) (y := yX2_why) (n := 2) (c0 := 2) (q := (RX2, TX2, 37)) this [iV v5, iV v7] [] rfl rfl k9 (mX2_why s2 he11) YOK_X2_why rfl q1977 q133 q1976 qs101 q1974 (Nat.le_of_ble_eq_true rfl) (Nat.le_of_ble_eq_true rfl) (Nat.le_of_ble_eq_true rfl) dX2_lasts_17 (st2 := [iV v10]) rfl) ?_
  clear he11
  refine im (go_istore (pc := 20) (Y := YX2_lasts) (ls2 := [(4, iV v10), (0, rV (some this)), (1, iV p0), (2, iV p1), (3, iV p2)]) dX2_lasts_20 (Nat.le_of_ble_eq_true rfl) rfl) ?_
  refine im (go_iload (pc := 22) (Y := YX2_lasts) 0 dX2_lasts_22 rfl) ?_
  refine flp2 (go_if_eq (pc := 24) (Y := YX2_lasts) 35 dX2_lasts_24 (by decide)) ?_ ?_
  · refine im (go_aload_n (pc := 35) (Y := YX2_lasts) 1 dX2_lasts_35 rfl rfl) ?_
    refine kdg (fun k12 => ?_)
    refine bpg (fun s13 he14 => ?_)
    refine im (go_callV (pc := 36) (Y := YX2_lasts) (Yc := YX2_asNow) (y := yX2_asNow) (n := 0) (c0 := 2) (q := (RX2, TX2, 37)) this [] [] rfl rfl k12 (mX2_asNow s2 he14) YOK_X2_asNow rfl q1981 q133 q1980 qs102 q1978 (Nat.le_of_ble_eq_true rfl) (Nat.le_of_ble_eq_true rfl) (Nat.le_of_ble_eq_true rfl) dX2_lasts_36 (st2 := []) rfl) ?_
    clear he14
    refine im (go_lconst (pc := 39) (Y := YX2_lasts) (v := 0) dX2_lasts_39 rfl) ?_
    refine im (go_lstore (pc := 40) (Y := YX2_lasts) (ls2 := [(5, lV 0), (4, iV v10), (0, rV (some this)), (1, iV p0), (2, iV p1), (3, iV p2)]) dX2_lasts_40 (Nat.le_of_ble_eq_true rfl) rfl) ?_
    refine im (go_lconst (pc := 42) (Y := YX2_lasts) (v := 0) dX2_lasts_42 rfl) ?_
    refine im (go_lstore (pc := 43) (Y := YX2_lasts) (ls2 := [(7, lV 0), (5, lV 0), (4, iV v10), (0, rV (some this)), (1, iV p0), (2, iV p1), (3, iV p2)]) dX2_lasts_43 (Nat.le_of_ble_eq_true rfl) rfl) ?_
    refine im (go_iconst (pc := 45) (Y := YX2_lasts) (v := 0) dX2_lasts_45 rfl) ?_
    refine im (go_istore (pc := 46) (Y := YX2_lasts) (ls2 := [(9, iV 0), (7, lV 0), (5, lV 0), (4, iV v10), (0, rV (some this)), (1, iV p0), (2, iV p1), (3, iV p2)]) dX2_lasts_46 (Nat.le_of_ble_eq_true rfl) rfl) ?_
    refine b3g (fun s49 v50 v51 he54 h55 => ?_)
    refine go_sub [4, 5, 6, 7, 2, 1, 0] rfl (sX2_lasts_L48_go this p0 p1 p2 FU _ _ _ _ _ _ _ he54 ?_)
    clear he54
    revert h55
    refine im (go_lload (pc := 173) (Y := YX2_lasts) 1 dX2_lasts_173 rfl) ?_
    refine im (go_lload (pc := 175) (Y := YX2_lasts) 2 dX2_lasts_175 rfl) ?_
    refine im (go_iload_n (pc := 177) (Y := YX2_lasts) 0 dX2_lasts_177 rfl rfl) ?_
    refine bpg (fun v52 he53 => ?_)
    refine im (go_callS (pc := 178) (Y := YX2_lasts) (Yc := YX2_lowest) (y := yX2_lowest) (n := 3) [lV v50, lV v51, iV p2] [] rfl (mX2_lowest s49 he53) YOK_X2_lowest rfl q2187 q133 q2186 q2185 (Nat.le_of_ble_eq_true rfl) (Nat.le_of_ble_eq_true rfl) (Nat.le_of_ble_eq_true rfl) dX2_lasts_178 (st2 := [lV v52]) rfl) ?_
    clear he53
    refine e2 (fun q0 q1 => ?_)
    subst q0
    subst q1
    exact go_lret (pc := 181) (Y := YX2_lasts) rfl dX2_lasts_181
  · refine im (go_aload_n (pc := 27) (Y := YX2_lasts) 1 dX2_lasts_27 rfl rfl) ?_
    refine im (go_iload (pc := 28) (Y := YX2_lasts) 0 dX2_lasts_28 rfl) ?_
    refine kdg (fun k56 => ?_)
    refine bdg (fun s57 v58 he59 => ?_)
    refine im (go_callV (pc := 30) (Y := YX2_lasts) (Yc := YX2_no) (y := yX2_no) (n := 1) (c0 := 2) (q := (RX2, TX2, 37)) this [iV v10] [] rfl rfl k56 (mX2_no s2 he59) YOK_X2_no rfl q1767 q133 q1766 qs67 q1764 (Nat.le_of_ble_eq_true rfl) (Nat.le_of_ble_eq_true rfl) (Nat.le_of_ble_eq_true rfl) dX2_lasts_30 (st2 := [iV v58]) rfl) ?_
    clear he59
    refine im (go_i2l (pc := 33) (Y := YX2_lasts) dX2_lasts_33) ?_
    refine e2 (fun q0 q1 => ?_)
    subst q0
    subst q1
    exact go_lret (pc := 34) (Y := YX2_lasts) rfl dX2_lasts_34
abbrev YX2_drawWhy : mY := (RX2, cX2_drawWhy, 5, (Option.some .int), 2, 46, false)
theorem YOK_X2_drawWhy : YOK yX2_drawWhy 3 := ⟨⟨by decide +kernel, by decide +kernel⟩, by decide +kernel⟩
theorem mX2_drawWhy {G : gG} (s0 : St) {this : Nat} {p0 : Int32} {p1 : Int32} {p2 : Int32} {sE : St} {vE : Int32} (h : sX2_drawWhy s0 this p0 p1 p2 = some (sE, vE)) : Mt G YX2_drawWhy yX2_drawWhy [rV (some this), iV p0, iV p1, iV p2] s0 (some (iV vE)) sE := by
  refine go_start (ls0 := [(0, rV (some this)), (1, iV p0), (2, iV p1), (3, iV p2)]) (by decide +kernel) rfl (fun h => by cases h) (Nat.le_of_ble_eq_true rfl) rfl ?_
  revert h
  unfold sX2_drawWhy
  refine im (go_aload_n (pc := 0) (Y := YX2_drawWhy) 0 dX2_drawWhy_0 rfl rfl) ?_
  refine im (go_aload_n (pc := 1) (Y := YX2_drawWhy) 0 dX2_drawWhy_1 rfl rfl) ?_
  refine im (go_iload_n (pc := 2) (Y := YX2_drawWhy) 1 dX2_drawWhy_2 rfl rfl) ?_
  refine kdg (fun k1 => ?_)
  refine bpg (fun v2 he3 => ?_)
  refine im (go_callV (pc := 3) (Y := YX2_drawWhy) (Yc := YX2_isQuarrel) (y := yX2_isQuarrel) (n := 1) (c0 := 2) (q := (RX2, TX2, 37)) this [iV p0] [rV (some this)] rfl rfl k1 (mX2_isQuarrel s0 he3) YOK_X2_isQuarrel rfl q1965 q133 q1964 qs99 q1962 (Nat.le_of_ble_eq_true rfl) (Nat.le_of_ble_eq_true rfl) (Nat.le_of_ble_eq_true rfl) dX2_drawWhy_3 (st2 := [iV v2, rV (some this)]) rfl) ?_
  clear he3
  refine im (go_iload_n (pc := 6) (Y := YX2_drawWhy) 2 dX2_drawWhy_6 rfl rfl) ?_
  refine im (go_iconst (pc := 7) (Y := YX2_drawWhy) (v := 0) dX2_drawWhy_7 rfl) ?_
  refine im (go_ldcwI (pc := 8) (Y := YX2_drawWhy) (v := 65536) dX2_drawWhy_8 q2227) ?_
  refine bpg (fun v4 he5 => ?_)
  refine im (go_callS (pc := 11) (Y := YX2_drawWhy) (Yc := YX2_in) (y := yX2_in) (n := 3) [iV p1, iV 0, iV 65536] [iV v2, rV (some this)] rfl (mX2_in s0 he5) YOK_X2_in rfl q1763 q133 q1762 q1761 (Nat.le_of_ble_eq_true rfl) (Nat.le_of_ble_eq_true rfl) (Nat.le_of_ble_eq_true rfl) dX2_drawWhy_11 (st2 := [iV v4, iV v2, rV (some this)]) rfl) ?_
  clear he5
  refine bpg (fun v6 he15 h16 => ?_)
  have hj26 : Go G YX2_drawWhy s0 sE (some (iV vE)) 26 [(0, rV (some this)), (2, iV p1)] [iV v6, iV v2, rV (some this)] s0 := by
    clear he15
    revert h16
    refine kdg (fun k7 => ?_)
    refine bpg (fun v8 he9 => ?_)
    refine im (go_callV (pc := 26) (Y := YX2_drawWhy) (Yc := YX2_why) (y := yX2_why) (n := 2) (c0 := 2) (q := (RX2, TX2, 37)) this [iV v2, iV v6] [] rfl rfl k7 (mX2_why s0 he9) YOK_X2_why rfl q1977 q133 q1976 qs101 q1974 (Nat.le_of_ble_eq_true rfl) (Nat.le_of_ble_eq_true rfl) (Nat.le_of_ble_eq_true rfl) dX2_drawWhy_26 (st2 := [iV v8]) rfl) ?_
    clear he9
    refine im (go_istore (pc := 29) (Y := YX2_drawWhy) (ls2 := [(4, iV v8), (0, rV (some this)), (2, iV p1)]) dX2_drawWhy_29 (Nat.le_of_ble_eq_true rfl) rfl) ?_
    refine im (go_iload (pc := 31) (Y := YX2_drawWhy) 0 dX2_drawWhy_31 rfl) ?_
    refine flp2 (go_if_eq (pc := 33) (Y := YX2_drawWhy) 39 dX2_drawWhy_33 (by decide)) ?_ ?_
    · refine im (go_aload_n (pc := 39) (Y := YX2_drawWhy) 1 dX2_drawWhy_39 rfl rfl) ?_
      refine kdg (fun k10 => ?_)
      refine bpg (fun s11 he12 => ?_)
      refine im (go_callV (pc := 40) (Y := YX2_drawWhy) (Yc := YX2_asNow) (y := yX2_asNow) (n := 0) (c0 := 2) (q := (RX2, TX2, 37)) this [] [] rfl rfl k10 (mX2_asNow s0 he12) YOK_X2_asNow rfl q1981 q133 q1980 qs102 q1978 (Nat.le_of_ble_eq_true rfl) (Nat.le_of_ble_eq_true rfl) (Nat.le_of_ble_eq_true rfl) dX2_drawWhy_40 (st2 := []) rfl) ?_
      clear he12
      refine im (go_aload_n (pc := 43) (Y := YX2_drawWhy) 1 dX2_drawWhy_43 rfl rfl) ?_
      refine im (go_iconst (pc := 44) (Y := YX2_drawWhy) (v := -1) dX2_drawWhy_44 rfl) ?_
      refine flp (go_pI (pc := 45) (Y := YX2_drawWhy) fF39 (by decide) q1663 (Or.inl rfl) (Or.inl rfl) rfl rfl rfl dX2_drawWhy_45) (fun s13 => ?_)
      refine im (go_aload_n (pc := 48) (Y := YX2_drawWhy) 1 dX2_drawWhy_48 rfl rfl) ?_
      refine im (go_iload_n (pc := 49) (Y := YX2_drawWhy) 2 dX2_drawWhy_49 rfl rfl) ?_
      refine flp (go_pI (pc := 50) (Y := YX2_drawWhy) fF40 (by decide) q1664 (Or.inl rfl) (Or.inl rfl) rfl rfl rfl dX2_drawWhy_50) (fun s14 => ?_)
      refine im (go_iconst (pc := 53) (Y := YX2_drawWhy) (v := 0) dX2_drawWhy_53 rfl) ?_
      refine e2 (fun q0 q1 => ?_)
      subst q0
      subst q1
      exact go_iret (pc := 54) (Y := YX2_drawWhy) rfl dX2_drawWhy_54
    · refine im (go_iload (pc := 36) (Y := YX2_drawWhy) 0 dX2_drawWhy_36 rfl) ?_
      refine e2 (fun q0 q1 => ?_)
      subst q0
      subst q1
      exact go_iret (pc := 38) (Y := YX2_drawWhy) rfl dX2_drawWhy_38
  clear h16
  revert he15
  refine flp2 (go_if_eq (pc := 14) (Y := YX2_drawWhy) 25 dX2_drawWhy_14 (by decide)) ?_ ?_
  · refine im (go_iconst (pc := 25) (Y := YX2_drawWhy) (v := 0) dX2_drawWhy_25 rfl) ?_
    refine e1 (fun q0 => ?_)
    subst q0
    exact go_sub [0, 2] rfl hj26
  · refine im (go_iload_n (pc := 17) (Y := YX2_drawWhy) 3 dX2_drawWhy_17 rfl rfl) ?_
    refine flp2 (go_if_eq (pc := 18) (Y := YX2_drawWhy) 25 dX2_drawWhy_18 (by decide)) ?_ ?_
    · refine im (go_iconst (pc := 25) (Y := YX2_drawWhy) (v := 0) dX2_drawWhy_25 rfl) ?_
      refine e1 (fun q0 => ?_)
      subst q0
      exact go_sub [0, 2] rfl hj26
    · refine im (go_iconst (pc := 21) (Y := YX2_drawWhy) (v := 1) dX2_drawWhy_21 rfl) ?_
      refine im (go_goto (pc := 22) (Y := YX2_drawWhy) 26 dX2_drawWhy_22 (by decide)) ?_
      refine e1 (fun q0 => ?_)
      subst q0
      exact go_sub [0, 2] rfl hj26
abbrev YX2_endsBy : mY := (RX2, cX2_endsBy, 4, (Option.some .int), 5, 117, false)
theorem YOK_X2_endsBy : YOK yX2_endsBy 2 := ⟨⟨by decide +kernel, by decide +kernel⟩, by decide +kernel⟩
theorem mX2_endsBy {G : gG} (s0 : St) {this : Nat} {p0 : Int32} {p1 : Int32} {sE : St} {vE : Int32} (h : sX2_endsBy s0 this p0 p1 = some (sE, vE)) : Mt G YX2_endsBy yX2_endsBy [rV (some this), iV p0, iV p1] s0 (some (iV vE)) sE := by
  refine go_start (ls0 := [(0, rV (some this)), (1, iV p0), (2, iV p1)]) (by decide +kernel) rfl (fun h => by cases h) (Nat.le_of_ble_eq_true rfl) rfl ?_
  revert h
  unfold sX2_endsBy
  refine im (go_aload_n (pc := 0) (Y := YX2_endsBy) 0 dX2_endsBy_0 rfl rfl) ?_
  refine kdg (fun k1 => ?_)
  refine bpg (fun s2 he3 => ?_)
  refine im (go_callV (pc := 1) (Y := YX2_endsBy) (Yc := YX2_good) (y := yX2_good) (n := 0) (c0 := 2) (q := (RX2, TX2, 37)) this [] [] rfl rfl k1 (mX2_good s0 he3) YOK_X2_good rfl q1760 q133 q1759 qs66 q1757 (Nat.le_of_ble_eq_true rfl) (Nat.le_of_ble_eq_true rfl) (Nat.le_of_ble_eq_true rfl) dX2_endsBy_1 (st2 := []) rfl) ?_
  clear he3
  refine im (go_aload_n (pc := 4) (Y := YX2_endsBy) 0 dX2_endsBy_4 rfl rfl) ?_
  refine im (go_iload_n (pc := 5) (Y := YX2_endsBy) 1 dX2_endsBy_5 rfl rfl) ?_
  refine im (go_iload_n (pc := 6) (Y := YX2_endsBy) 2 dX2_endsBy_6 rfl rfl) ?_
  refine im (go_iconst (pc := 7) (Y := YX2_endsBy) (v := 1) dX2_endsBy_7 rfl) ?_
  refine kdg (fun k4 => ?_)
  refine bdg (fun s5 v6 he7 => ?_)
  refine im (go_callV (pc := 8) (Y := YX2_endsBy) (Yc := YX2_drawWhy) (y := yX2_drawWhy) (n := 3) (c0 := 2) (q := (RX2, TX2, 37)) this [iV p0, iV p1, iV 1] [] rfl rfl k4 (mX2_drawWhy s2 he7) YOK_X2_drawWhy rfl q2226 q133 q2225 qs124 q2223 (Nat.le_of_ble_eq_true rfl) (Nat.le_of_ble_eq_true rfl) (Nat.le_of_ble_eq_true rfl) dX2_endsBy_8 (st2 := [iV v6]) rfl) ?_
  clear he7
  refine im (go_istore_n (pc := 11) (Y := YX2_endsBy) (ls2 := [(3, iV v6), (0, rV (some this)), (1, iV p0), (2, iV p1)]) dX2_endsBy_11 rfl (Nat.le_of_ble_eq_true rfl) rfl) ?_
  refine im (go_iload_n (pc := 12) (Y := YX2_endsBy) 0 dX2_endsBy_12 rfl rfl) ?_
  refine flp2 (go_if_eq (pc := 13) (Y := YX2_endsBy) 22 dX2_endsBy_13 (by decide)) ?_ ?_
  · refine im (go_aload_n (pc := 22) (Y := YX2_endsBy) 1 dX2_endsBy_22 rfl rfl) ?_
    refine im (go_iload_n (pc := 23) (Y := YX2_endsBy) 2 dX2_endsBy_23 rfl rfl) ?_
    refine kdg (fun k8 => ?_)
    refine bpg (fun s9 he10 => ?_)
    refine im (go_callV (pc := 24) (Y := YX2_endsBy) (Yc := YX2_runWithBoys) (y := yX2_runWithBoys) (n := 1) (c0 := 2) (q := (RX2, TX2, 37)) this [iV p0] [] rfl rfl k8 (mX2_runWithBoys s5 he10) YOK_X2_runWithBoys rfl q2218 q133 q2217 qs123 q2215 (Nat.le_of_ble_eq_true rfl) (Nat.le_of_ble_eq_true rfl) (Nat.le_of_ble_eq_true rfl) dX2_endsBy_24 (st2 := []) rfl) ?_
    clear he10
    refine im (go_aload_n (pc := 27) (Y := YX2_endsBy) 1 dX2_endsBy_27 rfl rfl) ?_
    refine flp (go_gI (pc := 28) (Y := YX2_endsBy) fF34 (by decide) q1658 (Or.inl rfl) dX2_endsBy_28) (fun v11 => ?_)
    refine e2 (fun q0 q1 => ?_)
    subst q0
    subst q1
    exact go_iret (pc := 31) (Y := YX2_endsBy) rfl dX2_endsBy_31
  · refine im (go_aload_n (pc := 16) (Y := YX2_endsBy) 1 dX2_endsBy_16 rfl rfl) ?_
    refine im (go_iload_n (pc := 17) (Y := YX2_endsBy) 0 dX2_endsBy_17 rfl rfl) ?_
    refine kdg (fun k12 => ?_)
    refine bdg (fun s13 v14 he15 => ?_)
    refine im (go_callV (pc := 18) (Y := YX2_endsBy) (Yc := YX2_no) (y := yX2_no) (n := 1) (c0 := 2) (q := (RX2, TX2, 37)) this [iV v6] [] rfl rfl k12 (mX2_no s5 he15) YOK_X2_no rfl q1767 q133 q1766 qs67 q1764 (Nat.le_of_ble_eq_true rfl) (Nat.le_of_ble_eq_true rfl) (Nat.le_of_ble_eq_true rfl) dX2_endsBy_18 (st2 := [iV v14]) rfl) ?_
    clear he15
    refine e2 (fun q0 q1 => ?_)
    subst q0
    subst q1
    exact go_iret (pc := 21) (Y := YX2_endsBy) rfl dX2_endsBy_21
abbrev YX2_endsByAt : mY := (RX2, cX2_endsByAt, 4, (Option.some .int), 5, 117, false)
theorem YOK_X2_endsByAt : YOK yX2_endsByAt 2 := ⟨⟨by decide +kernel, by decide +kernel⟩, by decide +kernel⟩
theorem mX2_endsByAt {G : gG} (s0 : St) {this : Nat} {p0 : Int32} {p1 : Int32} {sE : St} {vE : Int32} (h : sX2_endsByAt s0 this p0 p1 = some (sE, vE)) : Mt G YX2_endsByAt yX2_endsByAt [rV (some this), iV p0, iV p1] s0 (some (iV vE)) sE := by
  refine go_start (ls0 := [(0, rV (some this)), (1, iV p0), (2, iV p1)]) (by decide +kernel) rfl (fun h => by cases h) (Nat.le_of_ble_eq_true rfl) rfl ?_
  revert h
  unfold sX2_endsByAt
  refine im (go_aload_n (pc := 0) (Y := YX2_endsByAt) 0 dX2_endsByAt_0 rfl rfl) ?_
  refine kdg (fun k1 => ?_)
  refine bpg (fun s2 he3 => ?_)
  refine im (go_callV (pc := 1) (Y := YX2_endsByAt) (Yc := YX2_good) (y := yX2_good) (n := 0) (c0 := 2) (q := (RX2, TX2, 37)) this [] [] rfl rfl k1 (mX2_good s0 he3) YOK_X2_good rfl q1760 q133 q1759 qs66 q1757 (Nat.le_of_ble_eq_true rfl) (Nat.le_of_ble_eq_true rfl) (Nat.le_of_ble_eq_true rfl) dX2_endsByAt_1 (st2 := []) rfl) ?_
  clear he3
  refine im (go_aload_n (pc := 4) (Y := YX2_endsByAt) 0 dX2_endsByAt_4 rfl rfl) ?_
  refine im (go_iload_n (pc := 5) (Y := YX2_endsByAt) 1 dX2_endsByAt_5 rfl rfl) ?_
  refine im (go_iload_n (pc := 6) (Y := YX2_endsByAt) 2 dX2_endsByAt_6 rfl rfl) ?_
  refine im (go_iconst (pc := 7) (Y := YX2_endsByAt) (v := 1) dX2_endsByAt_7 rfl) ?_
  refine kdg (fun k4 => ?_)
  refine bdg (fun s5 v6 he7 => ?_)
  refine im (go_callV (pc := 8) (Y := YX2_endsByAt) (Yc := YX2_drawWhy) (y := yX2_drawWhy) (n := 3) (c0 := 2) (q := (RX2, TX2, 37)) this [iV p0, iV p1, iV 1] [] rfl rfl k4 (mX2_drawWhy s2 he7) YOK_X2_drawWhy rfl q2226 q133 q2225 qs124 q2223 (Nat.le_of_ble_eq_true rfl) (Nat.le_of_ble_eq_true rfl) (Nat.le_of_ble_eq_true rfl) dX2_endsByAt_8 (st2 := [iV v6]) rfl) ?_
  clear he7
  refine im (go_istore_n (pc := 11) (Y := YX2_endsByAt) (ls2 := [(3, iV v6), (0, rV (some this)), (1, iV p0), (2, iV p1)]) dX2_endsByAt_11 rfl (Nat.le_of_ble_eq_true rfl) rfl) ?_
  refine im (go_iload_n (pc := 12) (Y := YX2_endsByAt) 0 dX2_endsByAt_12 rfl rfl) ?_
  refine flp2 (go_if_eq (pc := 13) (Y := YX2_endsByAt) 22 dX2_endsByAt_13 (by decide)) ?_ ?_
  · refine im (go_aload_n (pc := 22) (Y := YX2_endsByAt) 1 dX2_endsByAt_22 rfl rfl) ?_
    refine im (go_iload_n (pc := 23) (Y := YX2_endsByAt) 2 dX2_endsByAt_23 rfl rfl) ?_
    refine kdg (fun k8 => ?_)
    refine bpg (fun s9 he10 => ?_)
    refine im (go_callV (pc := 24) (Y := YX2_endsByAt) (Yc := YX2_runWithBoys) (y := yX2_runWithBoys) (n := 1) (c0 := 2) (q := (RX2, TX2, 37)) this [iV p0] [] rfl rfl k8 (mX2_runWithBoys s5 he10) YOK_X2_runWithBoys rfl q2218 q133 q2217 qs123 q2215 (Nat.le_of_ble_eq_true rfl) (Nat.le_of_ble_eq_true rfl) (Nat.le_of_ble_eq_true rfl) dX2_endsByAt_24 (st2 := []) rfl) ?_
    clear he10
    refine im (go_aload_n (pc := 27) (Y := YX2_endsByAt) 1 dX2_endsByAt_27 rfl rfl) ?_
    refine flp (go_gI (pc := 28) (Y := YX2_endsByAt) fF35 (by decide) q1659 (Or.inl rfl) dX2_endsByAt_28) (fun v11 => ?_)
    refine e2 (fun q0 q1 => ?_)
    subst q0
    subst q1
    exact go_iret (pc := 31) (Y := YX2_endsByAt) rfl dX2_endsByAt_31
  · refine im (go_aload_n (pc := 16) (Y := YX2_endsByAt) 1 dX2_endsByAt_16 rfl rfl) ?_
    refine im (go_iload_n (pc := 17) (Y := YX2_endsByAt) 0 dX2_endsByAt_17 rfl rfl) ?_
    refine kdg (fun k12 => ?_)
    refine bdg (fun s13 v14 he15 => ?_)
    refine im (go_callV (pc := 18) (Y := YX2_endsByAt) (Yc := YX2_no) (y := yX2_no) (n := 1) (c0 := 2) (q := (RX2, TX2, 37)) this [iV v6] [] rfl rfl k12 (mX2_no s5 he15) YOK_X2_no rfl q1767 q133 q1766 qs67 q1764 (Nat.le_of_ble_eq_true rfl) (Nat.le_of_ble_eq_true rfl) (Nat.le_of_ble_eq_true rfl) dX2_endsByAt_18 (st2 := [iV v14]) rfl) ?_
    clear he15
    refine e2 (fun q0 q1 => ?_)
    subst q0
    subst q1
    exact go_iret (pc := 21) (Y := YX2_endsByAt) rfl dX2_endsByAt_21
abbrev YX2_wins : mY := (RX2, cX2_wins, 7, (Option.some .int), 5, 117, false)
theorem YOK_X2_wins : YOK yX2_wins 3 := ⟨⟨by decide +kernel, by decide +kernel⟩, by decide +kernel⟩
theorem sX2_wins_L37_go {G : gG} {s0 sE : St} {rE : Option V3} (this : Nat) (i1 : Int32) (i3 : Int32) : ∀ (n : Nat) (s10 : St) (v11 : Int32) (v12 : Int32) (s13 : St) (v14 : Int32), sX2_wins_L37 this i1 i3 n s10 v11 v12 = some (s13, v14) → Go G YX2_wins s0 sE rE 71 [(5, iV v14)] [] s13 → Go G YX2_wins s0 sE rE 37 [(0, rV (some this)), (1, iV i1), (3, iV i3), (5, iV v11), (6, iV v12)] [] s10 := by
  intro n
  induction n with
  | zero => intro s10 v11 v12 s13 v14 h hx; rw [sX2_wins_L37] at h; cases h
  | succ n ih =>
    intro s10 v11 v12 s13 v14 h hx
    revert h
    rw [sX2_wins_L37]
    refine im (go_iload (pc := 37) (Y := YX2_wins) 4 dX2_wins_37 rfl) ?_
    refine im (go_iload_n (pc := 39) (Y := YX2_wins) 2 dX2_wins_39 rfl rfl) ?_
    refine flp2 (go_icmp_ge (pc := 40) (Y := YX2_wins) 71 dX2_wins_40 (by decide)) ?_ ?_
    · refine e2 (fun q0 q1 => ?_)
      subst q0
      subst q1
      exact go_sub [3] rfl hx
    · refine im (go_aload_n (pc := 43) (Y := YX2_wins) 0 dX2_wins_43 rfl rfl) ?_
      refine im (go_iload_n (pc := 44) (Y := YX2_wins) 1 dX2_wins_44 rfl rfl) ?_
      refine kdg (fun k15 => ?_)
      refine bpg (fun s16 he17 => ?_)
      refine im (go_callV (pc := 45) (Y := YX2_wins) (Yc := YX2_runWithBoys) (y := yX2_runWithBoys) (n := 1) (c0 := 2) (q := (RX2, TX2, 37)) this [iV i1] [] rfl rfl k15 (mX2_runWithBoys s10 he17) YOK_X2_runWithBoys rfl q2218 q133 q2217 qs123 q2215 (Nat.le_of_ble_eq_true rfl) (Nat.le_of_ble_eq_true rfl) (Nat.le_of_ble_eq_true rfl) dX2_wins_45 (st2 := []) rfl) ?_
      clear he17
      refine im (go_iload (pc := 48) (Y := YX2_wins) 3 dX2_wins_48 rfl) ?_
      refine im (go_aload_n (pc := 50) (Y := YX2_wins) 0 dX2_wins_50 rfl rfl) ?_
      refine flp (go_gI (pc := 51) (Y := YX2_wins) fF34 (by decide) q1658 (Or.inl rfl) dX2_wins_51) (fun v18 => ?_)
      refine bpg (fun v19 he20 h21 => ?_)
      have hj62 : Go G YX2_wins s0 sE rE 62 [(0, rV (some this)), (1, iV i1), (3, iV i3), (6, iV v12)] [iV v19, iV v11] s16 := by
        clear he20
        revert h21
        refine im (go_iadd (pc := 62) (Y := YX2_wins) dX2_wins_62) ?_
        refine im (go_istore (pc := 63) (Y := YX2_wins) (ls2 := [(5, iV (v11 + v19)), (0, rV (some this)), (1, iV i1), (3, iV i3), (6, iV v12)]) dX2_wins_63 (Nat.le_of_ble_eq_true rfl) rfl) ?_
        refine im (go_iinc (pc := 65) (Y := YX2_wins) 4 (v := (v12 + 1)) (ls2 := [(6, iV (v12 + 1)), (5, iV (v11 + v19)), (0, rV (some this)), (1, iV i1), (3, iV i3)]) dX2_wins_65 rfl rfl (Nat.le_of_ble_eq_true rfl) rfl) ?_
        refine im (go_goto (pc := 68) (Y := YX2_wins) 37 dX2_wins_68 (by decide)) ?_
        exact fun hq => go_sub [2, 3, 4, 1, 0] rfl (ih _ _ _ _ _ hq hx)
      clear h21
      revert he20
      refine flp2 (go_if_le (pc := 54) (Y := YX2_wins) 61 dX2_wins_54 (by decide)) ?_ ?_
      · refine im (go_iconst (pc := 61) (Y := YX2_wins) (v := 0) dX2_wins_61 rfl) ?_
        refine e1 (fun q0 => ?_)
        subst q0
        exact go_sub [0, 1, 2, 4] rfl hj62
      · refine im (go_iconst (pc := 57) (Y := YX2_wins) (v := 1) dX2_wins_57 rfl) ?_
        refine im (go_goto (pc := 58) (Y := YX2_wins) 62 dX2_wins_58 (by decide)) ?_
        refine e1 (fun q0 => ?_)
        subst q0
        exact go_sub [0, 1, 2, 4] rfl hj62
theorem mX2_wins {G : gG} (s0 : St) {this : Nat} {p0 : Int32} {p1 : Int32} {p2 : Int32} {sE : St} {vE : Int32} (h : sX2_wins s0 this p0 p1 p2 = some (sE, vE)) : Mt G YX2_wins yX2_wins [rV (some this), iV p0, iV p1, iV p2] s0 (some (iV vE)) sE := by
  refine go_start (ls0 := [(0, rV (some this)), (1, iV p0), (2, iV p1), (3, iV p2)]) (by decide +kernel) rfl (fun h => by cases h) (Nat.le_of_ble_eq_true rfl) rfl ?_
  revert h
  unfold sX2_wins
  refine im (go_aload_n (pc := 0) (Y := YX2_wins) 0 dX2_wins_0 rfl rfl) ?_
  refine kdg (fun k1 => ?_)
  refine bpg (fun s2 he3 => ?_)
  refine im (go_callV (pc := 1) (Y := YX2_wins) (Yc := YX2_good) (y := yX2_good) (n := 0) (c0 := 2) (q := (RX2, TX2, 37)) this [] [] rfl rfl k1 (mX2_good s0 he3) YOK_X2_good rfl q1760 q133 q1759 qs66 q1757 (Nat.le_of_ble_eq_true rfl) (Nat.le_of_ble_eq_true rfl) (Nat.le_of_ble_eq_true rfl) dX2_wins_1 (st2 := []) rfl) ?_
  clear he3
  refine im (go_aload_n (pc := 4) (Y := YX2_wins) 0 dX2_wins_4 rfl rfl) ?_
  refine im (go_iload_n (pc := 5) (Y := YX2_wins) 1 dX2_wins_5 rfl rfl) ?_
  refine im (go_iload_n (pc := 6) (Y := YX2_wins) 2 dX2_wins_6 rfl rfl) ?_
  refine im (go_iload_n (pc := 7) (Y := YX2_wins) 3 dX2_wins_7 rfl rfl) ?_
  refine im (go_iconst (pc := 8) (Y := YX2_wins) (v := 0) dX2_wins_8 rfl) ?_
  refine im (go_bipush (pc := 9) (Y := YX2_wins) (v := 30) dX2_wins_9 rfl) ?_
  refine bpg (fun v4 he5 => ?_)
  refine im (go_callS (pc := 11) (Y := YX2_wins) (Yc := YX2_in) (y := yX2_in) (n := 3) [iV p2, iV 0, iV 30] [iV p1, iV p0, rV (some this)] rfl (mX2_in s2 he5) YOK_X2_in rfl q1763 q133 q1762 q1761 (Nat.le_of_ble_eq_true rfl) (Nat.le_of_ble_eq_true rfl) (Nat.le_of_ble_eq_true rfl) dX2_wins_11 (st2 := [iV v4, iV p1, iV p0, rV (some this)]) rfl) ?_
  clear he5
  refine kdg (fun k6 => ?_)
  refine bdg (fun s7 v8 he9 => ?_)
  refine im (go_callV (pc := 14) (Y := YX2_wins) (Yc := YX2_drawWhy) (y := yX2_drawWhy) (n := 3) (c0 := 2) (q := (RX2, TX2, 37)) this [iV p0, iV p1, iV v4] [] rfl rfl k6 (mX2_drawWhy s2 he9) YOK_X2_drawWhy rfl q2226 q133 q2225 qs124 q2223 (Nat.le_of_ble_eq_true rfl) (Nat.le_of_ble_eq_true rfl) (Nat.le_of_ble_eq_true rfl) dX2_wins_14 (st2 := [iV v8]) rfl) ?_
  clear he9
  refine im (go_istore (pc := 17) (Y := YX2_wins) (ls2 := [(4, iV v8), (0, rV (some this)), (1, iV p0), (2, iV p1), (3, iV p2)]) dX2_wins_17 (Nat.le_of_ble_eq_true rfl) rfl) ?_
  refine im (go_iload (pc := 19) (Y := YX2_wins) 0 dX2_wins_19 rfl) ?_
  refine flp2 (go_if_eq (pc := 21) (Y := YX2_wins) 31 dX2_wins_21 (by decide)) ?_ ?_
  · refine im (go_iconst (pc := 31) (Y := YX2_wins) (v := 0) dX2_wins_31 rfl) ?_
    refine im (go_istore (pc := 32) (Y := YX2_wins) (ls2 := [(5, iV 0), (4, iV v8), (0, rV (some this)), (1, iV p0), (2, iV p1), (3, iV p2)]) dX2_wins_32 (Nat.le_of_ble_eq_true rfl) rfl) ?_
    refine im (go_iconst (pc := 34) (Y := YX2_wins) (v := 0) dX2_wins_34 rfl) ?_
    refine im (go_istore (pc := 35) (Y := YX2_wins) (ls2 := [(6, iV 0), (5, iV 0), (4, iV v8), (0, rV (some this)), (1, iV p0), (2, iV p1), (3, iV p2)]) dX2_wins_35 (Nat.le_of_ble_eq_true rfl) rfl) ?_
    refine b2g (fun s22 v23 he24 h25 => ?_)
    refine go_sub [3, 4, 6, 1, 0] rfl (sX2_wins_L37_go this p0 p2 FU _ _ _ _ _ he24 ?_)
    clear he24
    revert h25
    refine im (go_iload (pc := 71) (Y := YX2_wins) 0 dX2_wins_71 rfl) ?_
    refine e2 (fun q0 q1 => ?_)
    subst q0
    subst q1
    exact go_iret (pc := 73) (Y := YX2_wins) rfl dX2_wins_73
  · refine im (go_aload_n (pc := 24) (Y := YX2_wins) 1 dX2_wins_24 rfl rfl) ?_
    refine im (go_iload (pc := 25) (Y := YX2_wins) 0 dX2_wins_25 rfl) ?_
    refine kdg (fun k26 => ?_)
    refine bdg (fun s27 v28 he29 => ?_)
    refine im (go_callV (pc := 27) (Y := YX2_wins) (Yc := YX2_no) (y := yX2_no) (n := 1) (c0 := 2) (q := (RX2, TX2, 37)) this [iV v8] [] rfl rfl k26 (mX2_no s7 he29) YOK_X2_no rfl q1767 q133 q1766 qs67 q1764 (Nat.le_of_ble_eq_true rfl) (Nat.le_of_ble_eq_true rfl) (Nat.le_of_ble_eq_true rfl) dX2_wins_27 (st2 := [iV v28]) rfl) ?_
    clear he29
    refine e2 (fun q0 q1 => ?_)
    subst q0
    subst q1
    exact go_iret (pc := 30) (Y := YX2_wins) rfl dX2_wins_30
abbrev YX2_isNot : mY := (RX2, cX2_isNot, 2, (Option.some .boolean), 0, 0, false)
theorem YOK_X2_isNot : YOK yX2_isNot 1 := ⟨⟨by decide +kernel, by decide +kernel⟩, by decide +kernel⟩
theorem mX2_isNot {G : gG} (s0 : St) {this : Nat} {p0 : Int32} {sE : St} {vE : Int32} (h : sX2_isNot s0 this p0 = some (sE, vE)) : Mt G YX2_isNot yX2_isNot [rV (some this), iV p0] s0 (some (iV vE)) sE := by
  refine go_start (ls0 := [(0, rV (some this)), (1, iV p0)]) (by decide +kernel) rfl (fun h => by cases h) (Nat.le_of_ble_eq_true rfl) rfl ?_
  revert h
  unfold sX2_isNot
  refine im (go_aload_n (pc := 0) (Y := YX2_isNot) 0 dX2_isNot_0 rfl rfl) ?_
  refine im (go_iload_n (pc := 1) (Y := YX2_isNot) 1 dX2_isNot_1 rfl rfl) ?_
  refine flp (go_pI (pc := 2) (Y := YX2_isNot) fF29 (by decide) q1644 (Or.inl rfl) (Or.inl rfl) rfl rfl rfl dX2_isNot_2) (fun s1 => ?_)
  refine im (go_iconst (pc := 5) (Y := YX2_isNot) (v := 0) dX2_isNot_5 rfl) ?_
  refine e2 (fun q0 q1 => ?_)
  subst q0
  subst q1
  exact go_zret (pc := 6) (Y := YX2_isNot) rfl rfl dX2_isNot_6
abbrev YX2_note : mY := (RX2, cX2_note, 2, (Option.none : Option Jvm.ClassFile.FieldType), 1, 25, false)
theorem YOK_X2_note : YOK yX2_note 0 := ⟨⟨by decide +kernel, by decide +kernel⟩, by decide +kernel⟩
theorem sX2_note_L11_go {G : gG} {s0 sE : St} {rE : Option V3} (this : Nat) : ∀ (n : Nat) (s10 : St) (v11 : Int32) (s12 : St), sX2_note_L11 this n s10 v11 = some s12 → Go G YX2_note s0 sE rE 38 [(0, rV (some this))] [] s12 → Go G YX2_note s0 sE rE 11 [(0, rV (some this)), (1, iV v11)] [] s10 := by
  intro n
  induction n with
  | zero => intro s10 v11 s12 h hx; rw [sX2_note_L11] at h; cases h
  | succ n ih =>
    intro s10 v11 s12 h hx
    revert h
    rw [sX2_note_L11]
    refine im (go_iload_n (pc := 11) (Y := YX2_note) 1 dX2_note_11 rfl rfl) ?_
    refine im (go_bipush (pc := 12) (Y := YX2_note) (v := 120) dX2_note_12 rfl) ?_
    refine flp2 (go_icmp_ge (pc := 14) (Y := YX2_note) 38 dX2_note_14 (by decide)) ?_ ?_
    · refine e1 (fun q0 => ?_)
      subst q0
      exact go_sub [0] rfl hx
    · refine im (go_aload_n (pc := 17) (Y := YX2_note) 0 dX2_note_17 rfl rfl) ?_
      refine flp (go_gR (pc := 18) (Y := YX2_note) fF1014 (by decide) q1651 (Or.inl rfl) dX2_note_18) (fun v13 => ?_)
      refine im (go_iload_n (pc := 21) (Y := YX2_note) 1 dX2_note_21 rfl rfl) ?_
      refine im (go_aload_n (pc := 22) (Y := YX2_note) 0 dX2_note_22 rfl rfl) ?_
      refine flp (go_gR (pc := 23) (Y := YX2_note) fF1014 (by decide) q1651 (Or.inl rfl) dX2_note_23) (fun v14 => ?_)
      refine im (go_iload_n (pc := 26) (Y := YX2_note) 1 dX2_note_26 rfl rfl) ?_
      refine im (go_bipush (pc := 27) (Y := YX2_note) (v := 8) dX2_note_27 rfl) ?_
      refine im (go_iadd (pc := 29) (Y := YX2_note) dX2_note_29) ?_
      refine flp (go_lI1 (pc := 30) (Y := YX2_note) dX2_note_30) (fun v15 => ?_)
      refine flp (go_tI (pc := 31) (Y := YX2_note) dX2_note_31) (fun s16 => ?_)
      refine im (go_iinc (pc := 32) (Y := YX2_note) 1 (v := (v11 + 1)) (ls2 := [(1, iV (v11 + 1)), (0, rV (some this))]) dX2_note_32 rfl rfl (Nat.le_of_ble_eq_true rfl) rfl) ?_
      refine im (go_goto (pc := 35) (Y := YX2_note) 11 dX2_note_35 (by decide)) ?_
      exact fun hq => go_sub [1, 0] rfl (ih _ _ _ hq hx)
theorem mX2_note {G : gG} (s0 : St) {this : Nat} {sE : St} (h : sX2_note s0 this = some sE) : Mt G YX2_note yX2_note [rV (some this)] s0 none sE := by
  refine go_start (ls0 := [(0, rV (some this))]) (by decide +kernel) rfl (fun h => by cases h) (Nat.le_of_ble_eq_true rfl) rfl ?_
  revert h
  unfold sX2_note
  refine im (go_aload_n (pc := 0) (Y := YX2_note) 0 dX2_note_0 rfl rfl) ?_
  refine flp (go_gI (pc := 1) (Y := YX2_note) fF32 (by decide) q1653 (Or.inl rfl) dX2_note_1) (fun v1 => ?_)
  refine im (go_bipush (pc := 4) (Y := YX2_note) (v := 16) dX2_note_4 rfl) ?_
  refine bpg (fun s2 he22 h23 => ?_)
  have hj48 : Go G YX2_note s0 sE none 48 [(0, rV (some this))] [] s2 := by
    clear he22
    revert h23
    refine im (go_aload_n (pc := 48) (Y := YX2_note) 0 dX2_note_48 rfl rfl) ?_
    refine flp (go_gR (pc := 49) (Y := YX2_note) fF1013 (by decide) q1650 (Or.inl rfl) dX2_note_49) (fun v3 => ?_)
    refine im (go_iconst (pc := 52) (Y := YX2_note) (v := 0) dX2_note_52 rfl) ?_
    refine im (go_aload_n (pc := 53) (Y := YX2_note) 0 dX2_note_53 rfl rfl) ?_
    refine flp (go_gR (pc := 54) (Y := YX2_note) fF1014 (by decide) q1651 (Or.inl rfl) dX2_note_54) (fun v4 => ?_)
    refine im (go_bipush (pc := 57) (Y := YX2_note) (v := 8) dX2_note_57 rfl) ?_
    refine im (go_aload_n (pc := 59) (Y := YX2_note) 0 dX2_note_59 rfl rfl) ?_
    refine flp (go_gI (pc := 60) (Y := YX2_note) fF32 (by decide) q1653 (Or.inl rfl) dX2_note_60) (fun v5 => ?_)
    refine im (go_imul (pc := 63) (Y := YX2_note) dX2_note_63) ?_
    refine im (go_bipush (pc := 64) (Y := YX2_note) (v := 8) dX2_note_64 rfl) ?_
    refine bpg (fun s6 he7 => ?_)
    refine im (go_callS (pc := 66) (Y := YX2_note) (Yc := YX2_copy) (y := yX2_copy) (n := 5) [rV v3, iV 0, rV v4, iV (8 * v5), iV 8] [] rfl (mX2_copy s2 he7) YOK_X2_copy rfl q1926 q133 q1925 q1924 (Nat.le_of_ble_eq_true rfl) (Nat.le_of_ble_eq_true rfl) (Nat.le_of_ble_eq_true rfl) dX2_note_66 (st2 := []) rfl) ?_
    clear he7
    refine im (go_aload_n (pc := 69) (Y := YX2_note) 0 dX2_note_69 rfl rfl) ?_
    refine im (go_dup (pc := 70) (Y := YX2_note) dX2_note_70 rfl) ?_
    refine flp (go_gI (pc := 71) (Y := YX2_note) fF32 (by decide) q1653 (Or.inl rfl) dX2_note_71) (fun v8 => ?_)
    refine im (go_iconst (pc := 74) (Y := YX2_note) (v := 1) dX2_note_74 rfl) ?_
    refine im (go_iadd (pc := 75) (Y := YX2_note) dX2_note_75) ?_
    refine flp (go_pI (pc := 76) (Y := YX2_note) fF32 (by decide) q1653 (Or.inl rfl) (Or.inl rfl) rfl rfl rfl dX2_note_76) (fun s9 => ?_)
    refine e1 (fun q0 => ?_)
    subst q0
    exact go_vret (pc := 79) (Y := YX2_note) rfl dX2_note_79
  clear h23
  revert he22
  refine flp2 (go_icmp_ne (pc := 6) (Y := YX2_note) 48 dX2_note_6 (by decide)) ?_ ?_
  · refine im (go_iconst (pc := 9) (Y := YX2_note) (v := 0) dX2_note_9 rfl) ?_
    refine im (go_istore_n (pc := 10) (Y := YX2_note) (ls2 := [(1, iV 0), (0, rV (some this))]) dX2_note_10 rfl (Nat.le_of_ble_eq_true rfl) rfl) ?_
    refine bpg (fun s17 he20 h21 => ?_)
    refine go_sub [1, 0] rfl (sX2_note_L11_go this FU _ _ _ he20 ?_)
    clear he20
    revert h21
    refine im (go_aload_n (pc := 38) (Y := YX2_note) 0 dX2_note_38 rfl rfl) ?_
    refine im (go_dup (pc := 39) (Y := YX2_note) dX2_note_39 rfl) ?_
    refine flp (go_gI (pc := 40) (Y := YX2_note) fF32 (by decide) q1653 (Or.inl rfl) dX2_note_40) (fun v18 => ?_)
    refine im (go_iconst (pc := 43) (Y := YX2_note) (v := 1) dX2_note_43 rfl) ?_
    refine im (go_isub (pc := 44) (Y := YX2_note) dX2_note_44) ?_
    refine flp (go_pI (pc := 45) (Y := YX2_note) fF32 (by decide) q1653 (Or.inl rfl) (Or.inl rfl) rfl rfl rfl dX2_note_45) (fun s19 => ?_)
    refine e1 (fun q0 => ?_)
    subst q0
    exact go_sub [0] rfl hj48
  · refine e1 (fun q0 => ?_)
    subst q0
    exact go_sub [0] rfl hj48
abbrev YX2_becomes : mY := (RX2, cX2_becomes, 3, (Option.some .boolean), 2, 46, false)
theorem YOK_X2_becomes : YOK yX2_becomes 2 := ⟨⟨by decide +kernel, by decide +kernel⟩, by decide +kernel⟩
theorem mX2_becomes {G : gG} (s0 : St) {this : Nat} {p0 : Int32} {p1 : Int32} {sE : St} {vE : Int32} (h : sX2_becomes s0 this p0 p1 = some (sE, vE)) : Mt G YX2_becomes yX2_becomes [rV (some this), iV p0, iV p1] s0 (some (iV vE)) sE := by
  refine go_start (ls0 := [(0, rV (some this)), (1, iV p0), (2, iV p1)]) (by decide +kernel) rfl (fun h => by cases h) (Nat.le_of_ble_eq_true rfl) rfl ?_
  revert h
  unfold sX2_becomes
  refine im (go_aload_n (pc := 0) (Y := YX2_becomes) 0 dX2_becomes_0 rfl rfl) ?_
  refine im (go_iload_n (pc := 1) (Y := YX2_becomes) 1 dX2_becomes_1 rfl rfl) ?_
  refine kdg (fun k1 => ?_)
  refine bpg (fun v2 he3 => ?_)
  refine im (go_callV (pc := 2) (Y := YX2_becomes) (Yc := YX2_isSight) (y := yX2_isSight) (n := 1) (c0 := 2) (q := (RX2, TX2, 37)) this [iV p0] [] rfl rfl k1 (mX2_isSight s0 he3) YOK_X2_isSight rfl q1957 q133 q1956 qs98 q1954 (Nat.le_of_ble_eq_true rfl) (Nat.le_of_ble_eq_true rfl) (Nat.le_of_ble_eq_true rfl) dX2_becomes_2 (st2 := [iV v2]) rfl) ?_
  clear he3
  refine flp2 (go_if_ne (pc := 5) (Y := YX2_becomes) 14 dX2_becomes_5 (by decide)) ?_ ?_
  · refine im (go_aload_n (pc := 8) (Y := YX2_becomes) 0 dX2_becomes_8 rfl rfl) ?_
    refine im (go_iconst (pc := 9) (Y := YX2_becomes) (v := 1) dX2_becomes_9 rfl) ?_
    refine kdg (fun k4 => ?_)
    refine bdg (fun s5 v6 he7 => ?_)
    refine im (go_callV (pc := 10) (Y := YX2_becomes) (Yc := YX2_isNot) (y := yX2_isNot) (n := 1) (c0 := 2) (q := (RX2, TX2, 37)) this [iV 1] [] rfl rfl k4 (mX2_isNot s0 he7) YOK_X2_isNot rfl q2247 q133 q2246 qs126 q2244 (Nat.le_of_ble_eq_true rfl) (Nat.le_of_ble_eq_true rfl) (Nat.le_of_ble_eq_true rfl) dX2_becomes_10 (st2 := [iV v6]) rfl) ?_
    clear he7
    refine okg (fun z8 => ?_)
    refine e2 (fun q0 q1 => ?_)
    subst q0
    subst q1
    exact go_zret (pc := 13) (Y := YX2_becomes) rfl (okZ_nar z8).1 dX2_becomes_13
  · refine im (go_aload_n (pc := 14) (Y := YX2_becomes) 0 dX2_becomes_14 rfl rfl) ?_
    refine flp (go_gR (pc := 15) (Y := YX2_becomes) fF1013 (by decide) q1650 (Or.inl rfl) dX2_becomes_15) (fun v9 => ?_)
    refine im (go_bipush (pc := 18) (Y := YX2_becomes) (v := 6) dX2_becomes_18 rfl) ?_
    refine flp (go_lI1 (pc := 20) (Y := YX2_becomes) dX2_becomes_20) (fun v10 => ?_)
    refine im (go_iload_n (pc := 21) (Y := YX2_becomes) 1 dX2_becomes_21 rfl rfl) ?_
    refine bpg (fun v11 he12 => ?_)
    refine im (go_callS (pc := 22) (Y := YX2_becomes) (Yc := YX2_hasBit) (y := yX2_hasBit) (n := 2) [iV v10, iV p0] [] rfl (mX2_hasBit s0 he12) YOK_X2_hasBit rfl q2000 q133 q1999 q1998 (Nat.le_of_ble_eq_true rfl) (Nat.le_of_ble_eq_true rfl) (Nat.le_of_ble_eq_true rfl) dX2_becomes_22 (st2 := [iV v11]) rfl) ?_
    clear he12
    refine im (go_iload_n (pc := 25) (Y := YX2_becomes) 2 dX2_becomes_25 rfl rfl) ?_
    refine flp2 (go_icmp_ne (pc := 26) (Y := YX2_becomes) 35 dX2_becomes_26 (by decide)) ?_ ?_
    · refine im (go_aload_n (pc := 29) (Y := YX2_becomes) 0 dX2_becomes_29 rfl rfl) ?_
      refine im (go_iconst (pc := 30) (Y := YX2_becomes) (v := 5) dX2_becomes_30 rfl) ?_
      refine kdg (fun k13 => ?_)
      refine bdg (fun s14 v15 he16 => ?_)
      refine im (go_callV (pc := 31) (Y := YX2_becomes) (Yc := YX2_isNot) (y := yX2_isNot) (n := 1) (c0 := 2) (q := (RX2, TX2, 37)) this [iV 5] [] rfl rfl k13 (mX2_isNot s0 he16) YOK_X2_isNot rfl q2247 q133 q2246 qs126 q2244 (Nat.le_of_ble_eq_true rfl) (Nat.le_of_ble_eq_true rfl) (Nat.le_of_ble_eq_true rfl) dX2_becomes_31 (st2 := [iV v15]) rfl) ?_
      clear he16
      refine okg (fun z17 => ?_)
      refine e2 (fun q0 q1 => ?_)
      subst q0
      subst q1
      exact go_zret (pc := 34) (Y := YX2_becomes) rfl (okZ_nar z17).1 dX2_becomes_34
    · refine im (go_aload_n (pc := 35) (Y := YX2_becomes) 0 dX2_becomes_35 rfl rfl) ?_
      refine kdg (fun k18 => ?_)
      refine bpg (fun s19 he20 => ?_)
      refine im (go_callV (pc := 36) (Y := YX2_becomes) (Yc := YX2_note) (y := yX2_note) (n := 0) (c0 := 2) (q := (RX2, TX2, 37)) this [] [] rfl rfl k18 (mX2_note s0 he20) YOK_X2_note rfl q2251 q133 q2250 qs127 q2248 (Nat.le_of_ble_eq_true rfl) (Nat.le_of_ble_eq_true rfl) (Nat.le_of_ble_eq_true rfl) dX2_becomes_36 (st2 := []) rfl) ?_
      clear he20
      refine im (go_aload_n (pc := 39) (Y := YX2_becomes) 0 dX2_becomes_39 rfl rfl) ?_
      refine flp (go_gR (pc := 40) (Y := YX2_becomes) fF1013 (by decide) q1650 (Or.inl rfl) dX2_becomes_40) (fun v21 => ?_)
      refine im (go_bipush (pc := 43) (Y := YX2_becomes) (v := 6) dX2_becomes_43 rfl) ?_
      refine im (go_dup2 (pc := 45) (Y := YX2_becomes) dX2_becomes_45 rfl rfl) ?_
      refine flp (go_lI1 (pc := 46) (Y := YX2_becomes) dX2_becomes_46) (fun v22 => ?_)
      refine im (go_iconst (pc := 47) (Y := YX2_becomes) (v := 1) dX2_becomes_47 rfl) ?_
      refine im (go_iload_n (pc := 48) (Y := YX2_becomes) 1 dX2_becomes_48 rfl rfl) ?_
      refine im (go_ishl (pc := 49) (Y := YX2_becomes) dX2_becomes_49) ?_
      refine im (go_ixor (pc := 50) (Y := YX2_becomes) dX2_becomes_50) ?_
      refine flp (go_tI (pc := 51) (Y := YX2_becomes) dX2_becomes_51) (fun s23 => ?_)
      refine im (go_iconst (pc := 52) (Y := YX2_becomes) (v := 1) dX2_becomes_52 rfl) ?_
      refine e2 (fun q0 q1 => ?_)
      subst q0
      subst q1
      exact go_zret (pc := 53) (Y := YX2_becomes) rfl rfl dX2_becomes_53
abbrev YX2_brick : mY := (RX2, cX2_brick, 2, (Option.some .boolean), 3, 68, false)
theorem YOK_X2_brick : YOK yX2_brick 1 := ⟨⟨by decide +kernel, by decide +kernel⟩, by decide +kernel⟩
theorem mX2_brick {G : gG} (s0 : St) {this : Nat} {p0 : Int32} {sE : St} {vE : Int32} (h : sX2_brick s0 this p0 = some (sE, vE)) : Mt G YX2_brick yX2_brick [rV (some this), iV p0] s0 (some (iV vE)) sE := by
  refine go_start (ls0 := [(0, rV (some this)), (1, iV p0)]) (by decide +kernel) rfl (fun h => by cases h) (Nat.le_of_ble_eq_true rfl) rfl ?_
  revert h
  unfold sX2_brick
  refine im (go_aload_n (pc := 0) (Y := YX2_brick) 0 dX2_brick_0 rfl rfl) ?_
  refine kdg (fun k1 => ?_)
  refine bpg (fun s2 he3 => ?_)
  refine im (go_callV (pc := 1) (Y := YX2_brick) (Yc := YX2_good) (y := yX2_good) (n := 0) (c0 := 2) (q := (RX2, TX2, 37)) this [] [] rfl rfl k1 (mX2_good s0 he3) YOK_X2_good rfl q1760 q133 q1759 qs66 q1757 (Nat.le_of_ble_eq_true rfl) (Nat.le_of_ble_eq_true rfl) (Nat.le_of_ble_eq_true rfl) dX2_brick_1 (st2 := []) rfl) ?_
  clear he3
  refine im (go_aload_n (pc := 4) (Y := YX2_brick) 0 dX2_brick_4 rfl rfl) ?_
  refine im (go_iload_n (pc := 5) (Y := YX2_brick) 1 dX2_brick_5 rfl rfl) ?_
  refine im (go_iconst (pc := 6) (Y := YX2_brick) (v := 1) dX2_brick_6 rfl) ?_
  refine kdg (fun k4 => ?_)
  refine bdg (fun s5 v6 he7 => ?_)
  refine im (go_callV (pc := 7) (Y := YX2_brick) (Yc := YX2_becomes) (y := yX2_becomes) (n := 2) (c0 := 2) (q := (RX2, TX2, 37)) this [iV p0, iV 1] [] rfl rfl k4 (mX2_becomes s2 he7) YOK_X2_becomes rfl q2243 q133 q2242 qs125 q2240 (Nat.le_of_ble_eq_true rfl) (Nat.le_of_ble_eq_true rfl) (Nat.le_of_ble_eq_true rfl) dX2_brick_7 (st2 := [iV v6]) rfl) ?_
  clear he7
  refine okg (fun z8 => ?_)
  refine e2 (fun q0 q1 => ?_)
  subst q0
  subst q1
  exact go_zret (pc := 10) (Y := YX2_brick) rfl (okZ_nar z8).1 dX2_brick_10
abbrev YX2_open : mY := (RX2, cX2_open, 2, (Option.some .boolean), 3, 68, false)
theorem YOK_X2_open : YOK yX2_open 1 := ⟨⟨by decide +kernel, by decide +kernel⟩, by decide +kernel⟩
theorem mX2_open {G : gG} (s0 : St) {this : Nat} {p0 : Int32} {sE : St} {vE : Int32} (h : sX2_open s0 this p0 = some (sE, vE)) : Mt G YX2_open yX2_open [rV (some this), iV p0] s0 (some (iV vE)) sE := by
  refine go_start (ls0 := [(0, rV (some this)), (1, iV p0)]) (by decide +kernel) rfl (fun h => by cases h) (Nat.le_of_ble_eq_true rfl) rfl ?_
  revert h
  unfold sX2_open
  refine im (go_aload_n (pc := 0) (Y := YX2_open) 0 dX2_open_0 rfl rfl) ?_
  refine kdg (fun k1 => ?_)
  refine bpg (fun s2 he3 => ?_)
  refine im (go_callV (pc := 1) (Y := YX2_open) (Yc := YX2_good) (y := yX2_good) (n := 0) (c0 := 2) (q := (RX2, TX2, 37)) this [] [] rfl rfl k1 (mX2_good s0 he3) YOK_X2_good rfl q1760 q133 q1759 qs66 q1757 (Nat.le_of_ble_eq_true rfl) (Nat.le_of_ble_eq_true rfl) (Nat.le_of_ble_eq_true rfl) dX2_open_1 (st2 := []) rfl) ?_
  clear he3
  refine im (go_aload_n (pc := 4) (Y := YX2_open) 0 dX2_open_4 rfl rfl) ?_
  refine im (go_iload_n (pc := 5) (Y := YX2_open) 1 dX2_open_5 rfl rfl) ?_
  refine im (go_iconst (pc := 6) (Y := YX2_open) (v := 0) dX2_open_6 rfl) ?_
  refine kdg (fun k4 => ?_)
  refine bdg (fun s5 v6 he7 => ?_)
  refine im (go_callV (pc := 7) (Y := YX2_open) (Yc := YX2_becomes) (y := yX2_becomes) (n := 2) (c0 := 2) (q := (RX2, TX2, 37)) this [iV p0, iV 0] [] rfl rfl k4 (mX2_becomes s2 he7) YOK_X2_becomes rfl q2243 q133 q2242 qs125 q2240 (Nat.le_of_ble_eq_true rfl) (Nat.le_of_ble_eq_true rfl) (Nat.le_of_ble_eq_true rfl) dX2_open_7 (st2 := [iV v6]) rfl) ?_
  clear he7
  refine okg (fun z8 => ?_)
  refine e2 (fun q0 q1 => ?_)
  subst q0
  subst q1
  exact go_zret (pc := 10) (Y := YX2_open) rfl (okZ_nar z8).1 dX2_open_10
abbrev YX2_hire : mY := (RX2, cX2_hire, 3, (Option.some .int), 2, 46, false)
theorem YOK_X2_hire : YOK yX2_hire 2 := ⟨⟨by decide +kernel, by decide +kernel⟩, by decide +kernel⟩
theorem mX2_hire {G : gG} (s0 : St) {this : Nat} {p0 : Int32} {p1 : Int32} {sE : St} {vE : Int32} (h : sX2_hire s0 this p0 p1 = some (sE, vE)) : Mt G YX2_hire yX2_hire [rV (some this), iV p0, iV p1] s0 (some (iV vE)) sE := by
  refine go_start (ls0 := [(0, rV (some this)), (1, iV p0), (2, iV p1)]) (by decide +kernel) rfl (fun h => by cases h) (Nat.le_of_ble_eq_true rfl) rfl ?_
  revert h
  unfold sX2_hire
  refine im (go_aload_n (pc := 0) (Y := YX2_hire) 0 dX2_hire_0 rfl rfl) ?_
  refine kdg (fun k1 => ?_)
  refine bpg (fun s2 he3 => ?_)
  refine im (go_callV (pc := 1) (Y := YX2_hire) (Yc := YX2_good) (y := yX2_good) (n := 0) (c0 := 2) (q := (RX2, TX2, 37)) this [] [] rfl rfl k1 (mX2_good s0 he3) YOK_X2_good rfl q1760 q133 q1759 qs66 q1757 (Nat.le_of_ble_eq_true rfl) (Nat.le_of_ble_eq_true rfl) (Nat.le_of_ble_eq_true rfl) dX2_hire_1 (st2 := []) rfl) ?_
  clear he3
  refine im (go_aload_n (pc := 4) (Y := YX2_hire) 0 dX2_hire_4 rfl rfl) ?_
  refine im (go_iload_n (pc := 5) (Y := YX2_hire) 1 dX2_hire_5 rfl rfl) ?_
  refine kdg (fun k4 => ?_)
  refine bpg (fun v5 he6 => ?_)
  refine im (go_callV (pc := 6) (Y := YX2_hire) (Yc := YX2_isPerson) (y := yX2_isPerson) (n := 1) (c0 := 2) (q := (RX2, TX2, 37)) this [iV p0] [] rfl rfl k4 (mX2_isPerson s2 he6) YOK_X2_isPerson rfl q1942 q133 q1941 qs96 q1939 (Nat.le_of_ble_eq_true rfl) (Nat.le_of_ble_eq_true rfl) (Nat.le_of_ble_eq_true rfl) dX2_hire_6 (st2 := [iV v5]) rfl) ?_
  clear he6
  refine flp2 (go_if_eq (pc := 9) (Y := YX2_hire) 20 dX2_hire_9 (by decide)) ?_ ?_
  · refine im (go_aload_n (pc := 20) (Y := YX2_hire) 0 dX2_hire_20 rfl rfl) ?_
    refine im (go_iconst (pc := 21) (Y := YX2_hire) (v := 1) dX2_hire_21 rfl) ?_
    refine kdg (fun k7 => ?_)
    refine bdg (fun s8 v9 he10 => ?_)
    refine im (go_callV (pc := 22) (Y := YX2_hire) (Yc := YX2_no) (y := yX2_no) (n := 1) (c0 := 2) (q := (RX2, TX2, 37)) this [iV 1] [] rfl rfl k7 (mX2_no s2 he10) YOK_X2_no rfl q1767 q133 q1766 qs67 q1764 (Nat.le_of_ble_eq_true rfl) (Nat.le_of_ble_eq_true rfl) (Nat.le_of_ble_eq_true rfl) dX2_hire_22 (st2 := [iV v9]) rfl) ?_
    clear he10
    refine e2 (fun q0 q1 => ?_)
    subst q0
    subst q1
    exact go_iret (pc := 25) (Y := YX2_hire) rfl dX2_hire_25
  · refine im (go_aload_n (pc := 12) (Y := YX2_hire) 0 dX2_hire_12 rfl rfl) ?_
    refine im (go_iload_n (pc := 13) (Y := YX2_hire) 2 dX2_hire_13 rfl rfl) ?_
    refine kdg (fun k11 => ?_)
    refine bpg (fun v12 he13 => ?_)
    refine im (go_callV (pc := 14) (Y := YX2_hire) (Yc := YX2_isPlace) (y := yX2_isPlace) (n := 1) (c0 := 2) (q := (RX2, TX2, 37)) this [iV p1] [] rfl rfl k11 (mX2_isPlace s2 he13) YOK_X2_isPlace rfl q1993 q133 q1992 qs104 q1990 (Nat.le_of_ble_eq_true rfl) (Nat.le_of_ble_eq_true rfl) (Nat.le_of_ble_eq_true rfl) dX2_hire_14 (st2 := [iV v12]) rfl) ?_
    clear he13
    refine flp2 (go_if_ne (pc := 17) (Y := YX2_hire) 26 dX2_hire_17 (by decide)) ?_ ?_
    · refine im (go_aload_n (pc := 20) (Y := YX2_hire) 0 dX2_hire_20 rfl rfl) ?_
      refine im (go_iconst (pc := 21) (Y := YX2_hire) (v := 1) dX2_hire_21 rfl) ?_
      refine kdg (fun k14 => ?_)
      refine bdg (fun s15 v16 he17 => ?_)
      refine im (go_callV (pc := 22) (Y := YX2_hire) (Yc := YX2_no) (y := yX2_no) (n := 1) (c0 := 2) (q := (RX2, TX2, 37)) this [iV 1] [] rfl rfl k14 (mX2_no s2 he17) YOK_X2_no rfl q1767 q133 q1766 qs67 q1764 (Nat.le_of_ble_eq_true rfl) (Nat.le_of_ble_eq_true rfl) (Nat.le_of_ble_eq_true rfl) dX2_hire_22 (st2 := [iV v16]) rfl) ?_
      clear he17
      refine e2 (fun q0 q1 => ?_)
      subst q0
      subst q1
      exact go_iret (pc := 25) (Y := YX2_hire) rfl dX2_hire_25
    · refine im (go_aload_n (pc := 26) (Y := YX2_hire) 0 dX2_hire_26 rfl rfl) ?_
      refine im (go_iload_n (pc := 27) (Y := YX2_hire) 1 dX2_hire_27 rfl rfl) ?_
      refine kdg (fun k18 => ?_)
      refine bpg (fun v19 he20 => ?_)
      refine im (go_callV (pc := 28) (Y := YX2_hire) (Yc := YX2_canHire) (y := yX2_canHire) (n := 1) (c0 := 2) (q := (RX2, TX2, 37)) this [iV p0] [] rfl rfl k18 (mX2_canHire s2 he20) YOK_X2_canHire rfl q2116 q133 q2115 qs115 q2113 (Nat.le_of_ble_eq_true rfl) (Nat.le_of_ble_eq_true rfl) (Nat.le_of_ble_eq_true rfl) dX2_hire_28 (st2 := [iV v19]) rfl) ?_
      clear he20
      refine flp2 (go_if_eq (pc := 31) (Y := YX2_hire) 46 dX2_hire_31 (by decide)) ?_ ?_
      · refine im (go_aload_n (pc := 46) (Y := YX2_hire) 0 dX2_hire_46 rfl rfl) ?_
        refine im (go_iconst (pc := 47) (Y := YX2_hire) (v := 5) dX2_hire_47 rfl) ?_
        refine kdg (fun k21 => ?_)
        refine bdg (fun s22 v23 he24 => ?_)
        refine im (go_callV (pc := 48) (Y := YX2_hire) (Yc := YX2_no) (y := yX2_no) (n := 1) (c0 := 2) (q := (RX2, TX2, 37)) this [iV 5] [] rfl rfl k21 (mX2_no s2 he24) YOK_X2_no rfl q1767 q133 q1766 qs67 q1764 (Nat.le_of_ble_eq_true rfl) (Nat.le_of_ble_eq_true rfl) (Nat.le_of_ble_eq_true rfl) dX2_hire_48 (st2 := [iV v23]) rfl) ?_
        clear he24
        refine e2 (fun q0 q1 => ?_)
        subst q0
        subst q1
        exact go_iret (pc := 51) (Y := YX2_hire) rfl dX2_hire_51
      · refine im (go_aload_n (pc := 34) (Y := YX2_hire) 0 dX2_hire_34 rfl rfl) ?_
        refine flp (go_gR (pc := 35) (Y := YX2_hire) fF1013 (by decide) q1650 (Or.inl rfl) dX2_hire_35) (fun v25 => ?_)
        refine im (go_iload_n (pc := 38) (Y := YX2_hire) 1 dX2_hire_38 rfl rfl) ?_
        refine flp (go_lI1 (pc := 39) (Y := YX2_hire) dX2_hire_39) (fun v26 => ?_)
        refine im (go_iload_n (pc := 40) (Y := YX2_hire) 2 dX2_hire_40 rfl rfl) ?_
        refine im (go_iconst (pc := 41) (Y := YX2_hire) (v := 1) dX2_hire_41 rfl) ?_
        refine im (go_iadd (pc := 42) (Y := YX2_hire) dX2_hire_42) ?_
        refine flp2 (go_icmp_ne (pc := 43) (Y := YX2_hire) 52 dX2_hire_43 (by decide)) ?_ ?_
        · refine im (go_aload_n (pc := 46) (Y := YX2_hire) 0 dX2_hire_46 rfl rfl) ?_
          refine im (go_iconst (pc := 47) (Y := YX2_hire) (v := 5) dX2_hire_47 rfl) ?_
          refine kdg (fun k27 => ?_)
          refine bdg (fun s28 v29 he30 => ?_)
          refine im (go_callV (pc := 48) (Y := YX2_hire) (Yc := YX2_no) (y := yX2_no) (n := 1) (c0 := 2) (q := (RX2, TX2, 37)) this [iV 5] [] rfl rfl k27 (mX2_no s2 he30) YOK_X2_no rfl q1767 q133 q1766 qs67 q1764 (Nat.le_of_ble_eq_true rfl) (Nat.le_of_ble_eq_true rfl) (Nat.le_of_ble_eq_true rfl) dX2_hire_48 (st2 := [iV v29]) rfl) ?_
          clear he30
          refine e2 (fun q0 q1 => ?_)
          subst q0
          subst q1
          exact go_iret (pc := 51) (Y := YX2_hire) rfl dX2_hire_51
        · refine im (go_aload_n (pc := 52) (Y := YX2_hire) 0 dX2_hire_52 rfl rfl) ?_
          refine kdg (fun k31 => ?_)
          refine bpg (fun s32 he33 => ?_)
          refine im (go_callV (pc := 53) (Y := YX2_hire) (Yc := YX2_note) (y := yX2_note) (n := 0) (c0 := 2) (q := (RX2, TX2, 37)) this [] [] rfl rfl k31 (mX2_note s2 he33) YOK_X2_note rfl q2251 q133 q2250 qs127 q2248 (Nat.le_of_ble_eq_true rfl) (Nat.le_of_ble_eq_true rfl) (Nat.le_of_ble_eq_true rfl) dX2_hire_53 (st2 := []) rfl) ?_
          clear he33
          refine im (go_aload_n (pc := 56) (Y := YX2_hire) 0 dX2_hire_56 rfl rfl) ?_
          refine flp (go_gR (pc := 57) (Y := YX2_hire) fF1013 (by decide) q1650 (Or.inl rfl) dX2_hire_57) (fun v34 => ?_)
          refine im (go_iload_n (pc := 60) (Y := YX2_hire) 1 dX2_hire_60 rfl rfl) ?_
          refine im (go_iload_n (pc := 61) (Y := YX2_hire) 2 dX2_hire_61 rfl rfl) ?_
          refine im (go_iconst (pc := 62) (Y := YX2_hire) (v := 1) dX2_hire_62 rfl) ?_
          refine im (go_iadd (pc := 63) (Y := YX2_hire) dX2_hire_63) ?_
          refine flp (go_tI (pc := 64) (Y := YX2_hire) dX2_hire_64) (fun s35 => ?_)
          refine im (go_aload_n (pc := 65) (Y := YX2_hire) 0 dX2_hire_65 rfl rfl) ?_
          refine flp (go_gR (pc := 66) (Y := YX2_hire) fF1013 (by decide) q1650 (Or.inl rfl) dX2_hire_66) (fun v36 => ?_)
          refine im (go_bipush (pc := 69) (Y := YX2_hire) (v := 7) dX2_hire_69 rfl) ?_
          refine im (go_dup2 (pc := 71) (Y := YX2_hire) dX2_hire_71 rfl rfl) ?_
          refine flp (go_lI1 (pc := 72) (Y := YX2_hire) dX2_hire_72) (fun v37 => ?_)
          refine im (go_aload_n (pc := 73) (Y := YX2_hire) 0 dX2_hire_73 rfl rfl) ?_
          refine flp (go_gR (pc := 74) (Y := YX2_hire) fF1011 (by decide) q1648 (Or.inl rfl) dX2_hire_74) (fun v38 => ?_)
          refine im (go_bipush (pc := 77) (Y := YX2_hire) (v := 26) dX2_hire_77 rfl) ?_
          refine im (go_iconst (pc := 79) (Y := YX2_hire) (v := 4) dX2_hire_79 rfl) ?_
          refine im (go_iload_n (pc := 80) (Y := YX2_hire) 1 dX2_hire_80 rfl rfl) ?_
          refine im (go_imul (pc := 81) (Y := YX2_hire) dX2_hire_81) ?_
          refine im (go_iadd (pc := 82) (Y := YX2_hire) dX2_hire_82) ?_
          refine im (go_iconst (pc := 83) (Y := YX2_hire) (v := 3) dX2_hire_83 rfl) ?_
          refine im (go_iadd (pc := 84) (Y := YX2_hire) dX2_hire_84) ?_
          refine flp (go_lI1 (pc := 85) (Y := YX2_hire) dX2_hire_85) (fun v39 => ?_)
          refine im (go_iconst (pc := 86) (Y := YX2_hire) (v := 1) dX2_hire_86 rfl) ?_
          refine im (go_isub (pc := 87) (Y := YX2_hire) dX2_hire_87) ?_
          refine im (go_iadd (pc := 88) (Y := YX2_hire) dX2_hire_88) ?_
          refine flp (go_tI (pc := 89) (Y := YX2_hire) dX2_hire_89) (fun s40 => ?_)
          refine im (go_aload_n (pc := 90) (Y := YX2_hire) 0 dX2_hire_90 rfl rfl) ?_
          refine flp (go_gR (pc := 91) (Y := YX2_hire) fF1011 (by decide) q1648 (Or.inl rfl) dX2_hire_91) (fun v41 => ?_)
          refine im (go_bipush (pc := 94) (Y := YX2_hire) (v := 26) dX2_hire_94 rfl) ?_
          refine im (go_iconst (pc := 96) (Y := YX2_hire) (v := 4) dX2_hire_96 rfl) ?_
          refine im (go_iload_n (pc := 97) (Y := YX2_hire) 1 dX2_hire_97 rfl rfl) ?_
          refine im (go_imul (pc := 98) (Y := YX2_hire) dX2_hire_98) ?_
          refine im (go_iadd (pc := 99) (Y := YX2_hire) dX2_hire_99) ?_
          refine im (go_iconst (pc := 100) (Y := YX2_hire) (v := 3) dX2_hire_100 rfl) ?_
          refine im (go_iadd (pc := 101) (Y := YX2_hire) dX2_hire_101) ?_
          refine flp (go_lI1 (pc := 102) (Y := YX2_hire) dX2_hire_102) (fun v42 => ?_)
          refine im (go_iconst (pc := 103) (Y := YX2_hire) (v := 1) dX2_hire_103 rfl) ?_
          refine im (go_isub (pc := 104) (Y := YX2_hire) dX2_hire_104) ?_
          refine e2 (fun q0 q1 => ?_)
          subst q0
          subst q1
          exact go_iret (pc := 105) (Y := YX2_hire) rfl dX2_hire_105
abbrev YX2_dismiss : mY := (RX2, cX2_dismiss, 2, (Option.some .boolean), 2, 46, false)
theorem YOK_X2_dismiss : YOK yX2_dismiss 1 := ⟨⟨by decide +kernel, by decide +kernel⟩, by decide +kernel⟩
theorem mX2_dismiss {G : gG} (s0 : St) {this : Nat} {p0 : Int32} {sE : St} {vE : Int32} (h : sX2_dismiss s0 this p0 = some (sE, vE)) : Mt G YX2_dismiss yX2_dismiss [rV (some this), iV p0] s0 (some (iV vE)) sE := by
  refine go_start (ls0 := [(0, rV (some this)), (1, iV p0)]) (by decide +kernel) rfl (fun h => by cases h) (Nat.le_of_ble_eq_true rfl) rfl ?_
  revert h
  unfold sX2_dismiss
  refine im (go_aload_n (pc := 0) (Y := YX2_dismiss) 0 dX2_dismiss_0 rfl rfl) ?_
  refine kdg (fun k1 => ?_)
  refine bpg (fun s2 he3 => ?_)
  refine im (go_callV (pc := 1) (Y := YX2_dismiss) (Yc := YX2_good) (y := yX2_good) (n := 0) (c0 := 2) (q := (RX2, TX2, 37)) this [] [] rfl rfl k1 (mX2_good s0 he3) YOK_X2_good rfl q1760 q133 q1759 qs66 q1757 (Nat.le_of_ble_eq_true rfl) (Nat.le_of_ble_eq_true rfl) (Nat.le_of_ble_eq_true rfl) dX2_dismiss_1 (st2 := []) rfl) ?_
  clear he3
  refine im (go_aload_n (pc := 4) (Y := YX2_dismiss) 0 dX2_dismiss_4 rfl rfl) ?_
  refine im (go_iload_n (pc := 5) (Y := YX2_dismiss) 1 dX2_dismiss_5 rfl rfl) ?_
  refine kdg (fun k4 => ?_)
  refine bpg (fun v5 he6 => ?_)
  refine im (go_callV (pc := 6) (Y := YX2_dismiss) (Yc := YX2_isPerson) (y := yX2_isPerson) (n := 1) (c0 := 2) (q := (RX2, TX2, 37)) this [iV p0] [] rfl rfl k4 (mX2_isPerson s2 he6) YOK_X2_isPerson rfl q1942 q133 q1941 qs96 q1939 (Nat.le_of_ble_eq_true rfl) (Nat.le_of_ble_eq_true rfl) (Nat.le_of_ble_eq_true rfl) dX2_dismiss_6 (st2 := [iV v5]) rfl) ?_
  clear he6
  refine flp2 (go_if_ne (pc := 9) (Y := YX2_dismiss) 18 dX2_dismiss_9 (by decide)) ?_ ?_
  · refine im (go_aload_n (pc := 12) (Y := YX2_dismiss) 0 dX2_dismiss_12 rfl rfl) ?_
    refine im (go_iconst (pc := 13) (Y := YX2_dismiss) (v := 1) dX2_dismiss_13 rfl) ?_
    refine kdg (fun k7 => ?_)
    refine bdg (fun s8 v9 he10 => ?_)
    refine im (go_callV (pc := 14) (Y := YX2_dismiss) (Yc := YX2_isNot) (y := yX2_isNot) (n := 1) (c0 := 2) (q := (RX2, TX2, 37)) this [iV 1] [] rfl rfl k7 (mX2_isNot s2 he10) YOK_X2_isNot rfl q2247 q133 q2246 qs126 q2244 (Nat.le_of_ble_eq_true rfl) (Nat.le_of_ble_eq_true rfl) (Nat.le_of_ble_eq_true rfl) dX2_dismiss_14 (st2 := [iV v9]) rfl) ?_
    clear he10
    refine okg (fun z11 => ?_)
    refine e2 (fun q0 q1 => ?_)
    subst q0
    subst q1
    exact go_zret (pc := 17) (Y := YX2_dismiss) rfl (okZ_nar z11).1 dX2_dismiss_17
  · refine im (go_aload_n (pc := 18) (Y := YX2_dismiss) 0 dX2_dismiss_18 rfl rfl) ?_
    refine flp (go_gR (pc := 19) (Y := YX2_dismiss) fF1013 (by decide) q1650 (Or.inl rfl) dX2_dismiss_19) (fun v12 => ?_)
    refine im (go_iload_n (pc := 22) (Y := YX2_dismiss) 1 dX2_dismiss_22 rfl rfl) ?_
    refine flp (go_lI1 (pc := 23) (Y := YX2_dismiss) dX2_dismiss_23) (fun v13 => ?_)
    refine flp2 (go_if_ne (pc := 24) (Y := YX2_dismiss) 33 dX2_dismiss_24 (by decide)) ?_ ?_
    · refine im (go_aload_n (pc := 27) (Y := YX2_dismiss) 0 dX2_dismiss_27 rfl rfl) ?_
      refine im (go_iconst (pc := 28) (Y := YX2_dismiss) (v := 5) dX2_dismiss_28 rfl) ?_
      refine kdg (fun k14 => ?_)
      refine bdg (fun s15 v16 he17 => ?_)
      refine im (go_callV (pc := 29) (Y := YX2_dismiss) (Yc := YX2_isNot) (y := yX2_isNot) (n := 1) (c0 := 2) (q := (RX2, TX2, 37)) this [iV 5] [] rfl rfl k14 (mX2_isNot s2 he17) YOK_X2_isNot rfl q2247 q133 q2246 qs126 q2244 (Nat.le_of_ble_eq_true rfl) (Nat.le_of_ble_eq_true rfl) (Nat.le_of_ble_eq_true rfl) dX2_dismiss_29 (st2 := [iV v16]) rfl) ?_
      clear he17
      refine okg (fun z18 => ?_)
      refine e2 (fun q0 q1 => ?_)
      subst q0
      subst q1
      exact go_zret (pc := 32) (Y := YX2_dismiss) rfl (okZ_nar z18).1 dX2_dismiss_32
    · refine im (go_aload_n (pc := 33) (Y := YX2_dismiss) 0 dX2_dismiss_33 rfl rfl) ?_
      refine kdg (fun k19 => ?_)
      refine bpg (fun s20 he21 => ?_)
      refine im (go_callV (pc := 34) (Y := YX2_dismiss) (Yc := YX2_note) (y := yX2_note) (n := 0) (c0 := 2) (q := (RX2, TX2, 37)) this [] [] rfl rfl k19 (mX2_note s2 he21) YOK_X2_note rfl q2251 q133 q2250 qs127 q2248 (Nat.le_of_ble_eq_true rfl) (Nat.le_of_ble_eq_true rfl) (Nat.le_of_ble_eq_true rfl) dX2_dismiss_34 (st2 := []) rfl) ?_
      clear he21
      refine im (go_aload_n (pc := 37) (Y := YX2_dismiss) 0 dX2_dismiss_37 rfl rfl) ?_
      refine flp (go_gR (pc := 38) (Y := YX2_dismiss) fF1013 (by decide) q1650 (Or.inl rfl) dX2_dismiss_38) (fun v22 => ?_)
      refine im (go_iload_n (pc := 41) (Y := YX2_dismiss) 1 dX2_dismiss_41 rfl rfl) ?_
      refine im (go_iconst (pc := 42) (Y := YX2_dismiss) (v := 0) dX2_dismiss_42 rfl) ?_
      refine flp (go_tI (pc := 43) (Y := YX2_dismiss) dX2_dismiss_43) (fun s23 => ?_)
      refine im (go_iconst (pc := 44) (Y := YX2_dismiss) (v := 1) dX2_dismiss_44 rfl) ?_
      refine e2 (fun q0 q1 => ?_)
      subst q0
      subst q1
      exact go_zret (pc := 45) (Y := YX2_dismiss) rfl rfl dX2_dismiss_45
abbrev YX2_spent : mY := (RX2, cX2_spent, 1, (Option.some .int), 1, 21, false)
theorem YOK_X2_spent : YOK yX2_spent 0 := ⟨⟨by decide +kernel, by decide +kernel⟩, by decide +kernel⟩
theorem mX2_spent {G : gG} (s0 : St) {this : Nat} {sE : St} {vE : Int32} (h : sX2_spent s0 this = some (sE, vE)) : Mt G YX2_spent yX2_spent [rV (some this)] s0 (some (iV vE)) sE := by
  refine go_start (ls0 := [(0, rV (some this))]) (by decide +kernel) rfl (fun h => by cases h) (Nat.le_of_ble_eq_true rfl) rfl ?_
  revert h
  unfold sX2_spent
  refine im (go_aload_n (pc := 0) (Y := YX2_spent) 0 dX2_spent_0 rfl rfl) ?_
  refine kdg (fun k1 => ?_)
  refine bpg (fun s2 he3 => ?_)
  refine im (go_callV (pc := 1) (Y := YX2_spent) (Yc := YX2_good) (y := yX2_good) (n := 0) (c0 := 2) (q := (RX2, TX2, 37)) this [] [] rfl rfl k1 (mX2_good s0 he3) YOK_X2_good rfl q1760 q133 q1759 qs66 q1757 (Nat.le_of_ble_eq_true rfl) (Nat.le_of_ble_eq_true rfl) (Nat.le_of_ble_eq_true rfl) dX2_spent_1 (st2 := []) rfl) ?_
  clear he3
  refine im (go_aload_n (pc := 4) (Y := YX2_spent) 0 dX2_spent_4 rfl rfl) ?_
  refine flp (go_gI (pc := 5) (Y := YX2_spent) fF31 (by decide) q1647 (Or.inl rfl) dX2_spent_5) (fun v4 => ?_)
  refine flp2 (go_if_eq (pc := 8) (Y := YX2_spent) 21 dX2_spent_8 (by decide)) ?_ ?_
  · refine im (go_aload_n (pc := 21) (Y := YX2_spent) 0 dX2_spent_21 rfl rfl) ?_
    refine im (go_iconst (pc := 22) (Y := YX2_spent) (v := 1) dX2_spent_22 rfl) ?_
    refine kdg (fun k5 => ?_)
    refine bdg (fun s6 v7 he8 => ?_)
    refine im (go_callV (pc := 23) (Y := YX2_spent) (Yc := YX2_no) (y := yX2_no) (n := 1) (c0 := 2) (q := (RX2, TX2, 37)) this [iV 1] [] rfl rfl k5 (mX2_no s2 he8) YOK_X2_no rfl q1767 q133 q1766 qs67 q1764 (Nat.le_of_ble_eq_true rfl) (Nat.le_of_ble_eq_true rfl) (Nat.le_of_ble_eq_true rfl) dX2_spent_23 (st2 := [iV v7]) rfl) ?_
    clear he8
    refine e2 (fun q0 q1 => ?_)
    subst q0
    subst q1
    exact go_iret (pc := 26) (Y := YX2_spent) rfl dX2_spent_26
  · refine im (go_aload_n (pc := 11) (Y := YX2_spent) 0 dX2_spent_11 rfl rfl) ?_
    refine flp (go_gR (pc := 12) (Y := YX2_spent) fF1013 (by decide) q1650 (Or.inl rfl) dX2_spent_12) (fun v9 => ?_)
    refine im (go_bipush (pc := 15) (Y := YX2_spent) (v := 7) dX2_spent_15 rfl) ?_
    refine flp (go_lI1 (pc := 17) (Y := YX2_spent) dX2_spent_17) (fun v10 => ?_)
    refine im (go_goto (pc := 18) (Y := YX2_spent) 26 dX2_spent_18 (by decide)) ?_
    refine e2 (fun q0 q1 => ?_)
    subst q0
    subst q1
    exact go_iret (pc := 26) (Y := YX2_spent) rfl dX2_spent_26
abbrev YX2_undo : mY := (RX2, cX2_undo, 1, (Option.some .boolean), 1, 25, false)
theorem YOK_X2_undo : YOK yX2_undo 0 := ⟨⟨by decide +kernel, by decide +kernel⟩, by decide +kernel⟩
theorem mX2_undo {G : gG} (s0 : St) {this : Nat} {sE : St} {vE : Int32} (h : sX2_undo s0 this = some (sE, vE)) : Mt G YX2_undo yX2_undo [rV (some this)] s0 (some (iV vE)) sE := by
  refine go_start (ls0 := [(0, rV (some this))]) (by decide +kernel) rfl (fun h => by cases h) (Nat.le_of_ble_eq_true rfl) rfl ?_
  revert h
  unfold sX2_undo
  refine im (go_aload_n (pc := 0) (Y := YX2_undo) 0 dX2_undo_0 rfl rfl) ?_
  refine kdg (fun k1 => ?_)
  refine bpg (fun s2 he3 => ?_)
  refine im (go_callV (pc := 1) (Y := YX2_undo) (Yc := YX2_good) (y := yX2_good) (n := 0) (c0 := 2) (q := (RX2, TX2, 37)) this [] [] rfl rfl k1 (mX2_good s0 he3) YOK_X2_good rfl q1760 q133 q1759 qs66 q1757 (Nat.le_of_ble_eq_true rfl) (Nat.le_of_ble_eq_true rfl) (Nat.le_of_ble_eq_true rfl) dX2_undo_1 (st2 := []) rfl) ?_
  clear he3
  refine im (go_aload_n (pc := 4) (Y := YX2_undo) 0 dX2_undo_4 rfl rfl) ?_
  refine flp (go_gI (pc := 5) (Y := YX2_undo) fF32 (by decide) q1653 (Or.inl rfl) dX2_undo_5) (fun v4 => ?_)
  refine flp2 (go_if_ne (pc := 8) (Y := YX2_undo) 18 dX2_undo_8 (by decide)) ?_ ?_
  · refine im (go_aload_n (pc := 11) (Y := YX2_undo) 0 dX2_undo_11 rfl rfl) ?_
    refine im (go_bipush (pc := 12) (Y := YX2_undo) (v := 6) dX2_undo_12 rfl) ?_
    refine kdg (fun k5 => ?_)
    refine bdg (fun s6 v7 he8 => ?_)
    refine im (go_callV (pc := 14) (Y := YX2_undo) (Yc := YX2_isNot) (y := yX2_isNot) (n := 1) (c0 := 2) (q := (RX2, TX2, 37)) this [iV 6] [] rfl rfl k5 (mX2_isNot s2 he8) YOK_X2_isNot rfl q2247 q133 q2246 qs126 q2244 (Nat.le_of_ble_eq_true rfl) (Nat.le_of_ble_eq_true rfl) (Nat.le_of_ble_eq_true rfl) dX2_undo_14 (st2 := [iV v7]) rfl) ?_
    clear he8
    refine okg (fun z9 => ?_)
    refine e2 (fun q0 q1 => ?_)
    subst q0
    subst q1
    exact go_zret (pc := 17) (Y := YX2_undo) rfl (okZ_nar z9).1 dX2_undo_17
  · refine im (go_aload_n (pc := 18) (Y := YX2_undo) 0 dX2_undo_18 rfl rfl) ?_
    refine im (go_dup (pc := 19) (Y := YX2_undo) dX2_undo_19 rfl) ?_
    refine flp (go_gI (pc := 20) (Y := YX2_undo) fF32 (by decide) q1653 (Or.inl rfl) dX2_undo_20) (fun v10 => ?_)
    refine im (go_iconst (pc := 23) (Y := YX2_undo) (v := 1) dX2_undo_23 rfl) ?_
    refine im (go_isub (pc := 24) (Y := YX2_undo) dX2_undo_24) ?_
    refine flp (go_pI (pc := 25) (Y := YX2_undo) fF32 (by decide) q1653 (Or.inl rfl) (Or.inl rfl) rfl rfl rfl dX2_undo_25) (fun s11 => ?_)
    refine im (go_aload_n (pc := 28) (Y := YX2_undo) 0 dX2_undo_28 rfl rfl) ?_
    refine flp (go_gR (pc := 29) (Y := YX2_undo) fF1014 (by decide) q1651 (Or.inl rfl) dX2_undo_29) (fun v12 => ?_)
    refine im (go_bipush (pc := 32) (Y := YX2_undo) (v := 8) dX2_undo_32 rfl) ?_
    refine im (go_aload_n (pc := 34) (Y := YX2_undo) 0 dX2_undo_34 rfl rfl) ?_
    refine flp (go_gI (pc := 35) (Y := YX2_undo) fF32 (by decide) q1653 (Or.inl rfl) dX2_undo_35) (fun v13 => ?_)
    refine im (go_imul (pc := 38) (Y := YX2_undo) dX2_undo_38) ?_
    refine im (go_aload_n (pc := 39) (Y := YX2_undo) 0 dX2_undo_39 rfl rfl) ?_
    refine flp (go_gR (pc := 40) (Y := YX2_undo) fF1013 (by decide) q1650 (Or.inl rfl) dX2_undo_40) (fun v14 => ?_)
    refine im (go_iconst (pc := 43) (Y := YX2_undo) (v := 0) dX2_undo_43 rfl) ?_
    refine im (go_bipush (pc := 44) (Y := YX2_undo) (v := 8) dX2_undo_44 rfl) ?_
    refine bpg (fun s15 he16 => ?_)
    refine im (go_callS (pc := 46) (Y := YX2_undo) (Yc := YX2_copy) (y := yX2_copy) (n := 5) [rV v12, iV (8 * v13), rV v14, iV 0, iV 8] [] rfl (mX2_copy s11 he16) YOK_X2_copy rfl q1926 q133 q1925 q1924 (Nat.le_of_ble_eq_true rfl) (Nat.le_of_ble_eq_true rfl) (Nat.le_of_ble_eq_true rfl) dX2_undo_46 (st2 := []) rfl) ?_
    clear he16
    refine im (go_iconst (pc := 49) (Y := YX2_undo) (v := 1) dX2_undo_49 rfl) ?_
    refine e2 (fun q0 q1 => ?_)
    subst q0
    subst q1
    exact go_zret (pc := 50) (Y := YX2_undo) rfl rfl dX2_undo_50
abbrev YX2_image : mY := (RX2, cX2_image, 1, (Option.some .int), 1, 25, false)
theorem YOK_X2_image : YOK yX2_image 0 := ⟨⟨by decide +kernel, by decide +kernel⟩, by decide +kernel⟩
theorem mX2_image {G : gG} (s0 : St) {this : Nat} {sE : St} {vE : Int32} (h : sX2_image s0 this = some (sE, vE)) : Mt G YX2_image yX2_image [rV (some this)] s0 (some (iV vE)) sE := by
  refine go_start (ls0 := [(0, rV (some this))]) (by decide +kernel) rfl (fun h => by cases h) (Nat.le_of_ble_eq_true rfl) rfl ?_
  revert h
  unfold sX2_image
  refine im (go_aload_n (pc := 0) (Y := YX2_image) 0 dX2_image_0 rfl rfl) ?_
  refine kdg (fun k1 => ?_)
  refine bpg (fun s2 he3 => ?_)
  refine im (go_callV (pc := 1) (Y := YX2_image) (Yc := YX2_good) (y := yX2_good) (n := 0) (c0 := 2) (q := (RX2, TX2, 37)) this [] [] rfl rfl k1 (mX2_good s0 he3) YOK_X2_good rfl q1760 q133 q1759 qs66 q1757 (Nat.le_of_ble_eq_true rfl) (Nat.le_of_ble_eq_true rfl) (Nat.le_of_ble_eq_true rfl) dX2_image_1 (st2 := []) rfl) ?_
  clear he3
  refine im (go_aload_n (pc := 4) (Y := YX2_image) 0 dX2_image_4 rfl rfl) ?_
  refine flp (go_gI (pc := 5) (Y := YX2_image) fF31 (by decide) q1647 (Or.inl rfl) dX2_image_5) (fun v4 => ?_)
  refine flp2 (go_if_ne (pc := 8) (Y := YX2_image) 17 dX2_image_8 (by decide)) ?_ ?_
  · refine im (go_aload_n (pc := 11) (Y := YX2_image) 0 dX2_image_11 rfl rfl) ?_
    refine im (go_iconst (pc := 12) (Y := YX2_image) (v := 1) dX2_image_12 rfl) ?_
    refine kdg (fun k5 => ?_)
    refine bdg (fun s6 v7 he8 => ?_)
    refine im (go_callV (pc := 13) (Y := YX2_image) (Yc := YX2_no) (y := yX2_no) (n := 1) (c0 := 2) (q := (RX2, TX2, 37)) this [iV 1] [] rfl rfl k5 (mX2_no s2 he8) YOK_X2_no rfl q1767 q133 q1766 qs67 q1764 (Nat.le_of_ble_eq_true rfl) (Nat.le_of_ble_eq_true rfl) (Nat.le_of_ble_eq_true rfl) dX2_image_13 (st2 := [iV v7]) rfl) ?_
    clear he8
    refine e2 (fun q0 q1 => ?_)
    subst q0
    subst q1
    exact go_iret (pc := 16) (Y := YX2_image) rfl dX2_image_16
  · refine im (go_aload_n (pc := 17) (Y := YX2_image) 0 dX2_image_17 rfl rfl) ?_
    refine flp (go_gI (pc := 18) (Y := YX2_image) fF33 (by decide) q1654 (Or.inl rfl) dX2_image_18) (fun v9 => ?_)
    refine im (go_iconst (pc := 21) (Y := YX2_image) (v := 3) dX2_image_21 rfl) ?_
    refine flp2 (go_icmp_ne (pc := 22) (Y := YX2_image) 31 dX2_image_22 (by decide)) ?_ ?_
    · refine im (go_aload_n (pc := 25) (Y := YX2_image) 0 dX2_image_25 rfl rfl) ?_
      refine im (go_iconst (pc := 26) (Y := YX2_image) (v := 3) dX2_image_26 rfl) ?_
      refine kdg (fun k10 => ?_)
      refine bdg (fun s11 v12 he13 => ?_)
      refine im (go_callV (pc := 27) (Y := YX2_image) (Yc := YX2_no) (y := yX2_no) (n := 1) (c0 := 2) (q := (RX2, TX2, 37)) this [iV 3] [] rfl rfl k10 (mX2_no s2 he13) YOK_X2_no rfl q1767 q133 q1766 qs67 q1764 (Nat.le_of_ble_eq_true rfl) (Nat.le_of_ble_eq_true rfl) (Nat.le_of_ble_eq_true rfl) dX2_image_27 (st2 := [iV v12]) rfl) ?_
      clear he13
      refine e2 (fun q0 q1 => ?_)
      subst q0
      subst q1
      exact go_iret (pc := 30) (Y := YX2_image) rfl dX2_image_30
    · refine im (go_aload_n (pc := 31) (Y := YX2_image) 0 dX2_image_31 rfl rfl) ?_
      refine flp (go_gR (pc := 32) (Y := YX2_image) fF1013 (by decide) q1650 (Or.inl rfl) dX2_image_32) (fun v14 => ?_)
      refine im (go_iconst (pc := 35) (Y := YX2_image) (v := 0) dX2_image_35 rfl) ?_
      refine im (go_aload_n (pc := 36) (Y := YX2_image) 0 dX2_image_36 rfl rfl) ?_
      refine flp (go_gR (pc := 37) (Y := YX2_image) fF1015 (by decide) q1652 (Or.inl rfl) dX2_image_37) (fun v15 => ?_)
      refine im (go_bipush (pc := 40) (Y := YX2_image) (v := 8) dX2_image_40 rfl) ?_
      refine im (go_aload_n (pc := 42) (Y := YX2_image) 0 dX2_image_42 rfl rfl) ?_
      refine flp (go_gI (pc := 43) (Y := YX2_image) fF33 (by decide) q1654 (Or.inl rfl) dX2_image_43) (fun v16 => ?_)
      refine im (go_imul (pc := 46) (Y := YX2_image) dX2_image_46) ?_
      refine im (go_bipush (pc := 47) (Y := YX2_image) (v := 8) dX2_image_47 rfl) ?_
      refine bpg (fun s17 he18 => ?_)
      refine im (go_callS (pc := 49) (Y := YX2_image) (Yc := YX2_copy) (y := yX2_copy) (n := 5) [rV v14, iV 0, rV v15, iV (8 * v16), iV 8] [] rfl (mX2_copy s2 he18) YOK_X2_copy rfl q1926 q133 q1925 q1924 (Nat.le_of_ble_eq_true rfl) (Nat.le_of_ble_eq_true rfl) (Nat.le_of_ble_eq_true rfl) dX2_image_49 (st2 := []) rfl) ?_
      clear he18
      refine im (go_aload_n (pc := 52) (Y := YX2_image) 0 dX2_image_52 rfl rfl) ?_
      refine im (go_dup (pc := 53) (Y := YX2_image) dX2_image_53 rfl) ?_
      refine flp (go_gI (pc := 54) (Y := YX2_image) fF33 (by decide) q1654 (Or.inl rfl) dX2_image_54) (fun v19 => ?_)
      refine im (go_iconst (pc := 57) (Y := YX2_image) (v := 1) dX2_image_57 rfl) ?_
      refine im (go_iadd (pc := 58) (Y := YX2_image) dX2_image_58) ?_
      refine flp (go_pI (pc := 59) (Y := YX2_image) fF33 (by decide) q1654 (Or.inl rfl) (Or.inl rfl) rfl rfl rfl dX2_image_59) (fun s20 => ?_)
      refine im (go_aload_n (pc := 62) (Y := YX2_image) 0 dX2_image_62 rfl rfl) ?_
      refine flp (go_gI (pc := 63) (Y := YX2_image) fF33 (by decide) q1654 (Or.inl rfl) dX2_image_63) (fun v21 => ?_)
      refine im (go_iconst (pc := 66) (Y := YX2_image) (v := 1) dX2_image_66 rfl) ?_
      refine im (go_isub (pc := 67) (Y := YX2_image) dX2_image_67) ?_
      refine e2 (fun q0 q1 => ?_)
      subst q0
      subst q1
      exact go_iret (pc := 68) (Y := YX2_image) rfl dX2_image_68
abbrev YX2_back : mY := (RX2, cX2_back, 2, (Option.some .boolean), 1, 25, false)
theorem YOK_X2_back : YOK yX2_back 1 := ⟨⟨by decide +kernel, by decide +kernel⟩, by decide +kernel⟩
theorem mX2_back {G : gG} (s0 : St) {this : Nat} {p0 : Int32} {sE : St} {vE : Int32} (h : sX2_back s0 this p0 = some (sE, vE)) : Mt G YX2_back yX2_back [rV (some this), iV p0] s0 (some (iV vE)) sE := by
  refine go_start (ls0 := [(0, rV (some this)), (1, iV p0)]) (by decide +kernel) rfl (fun h => by cases h) (Nat.le_of_ble_eq_true rfl) rfl ?_
  revert h
  unfold sX2_back
  refine im (go_aload_n (pc := 0) (Y := YX2_back) 0 dX2_back_0 rfl rfl) ?_
  refine kdg (fun k1 => ?_)
  refine bpg (fun s2 he3 => ?_)
  refine im (go_callV (pc := 1) (Y := YX2_back) (Yc := YX2_good) (y := yX2_good) (n := 0) (c0 := 2) (q := (RX2, TX2, 37)) this [] [] rfl rfl k1 (mX2_good s0 he3) YOK_X2_good rfl q1760 q133 q1759 qs66 q1757 (Nat.le_of_ble_eq_true rfl) (Nat.le_of_ble_eq_true rfl) (Nat.le_of_ble_eq_true rfl) dX2_back_1 (st2 := []) rfl) ?_
  clear he3
  refine im (go_iload_n (pc := 4) (Y := YX2_back) 1 dX2_back_4 rfl rfl) ?_
  refine im (go_iconst (pc := 5) (Y := YX2_back) (v := 0) dX2_back_5 rfl) ?_
  refine im (go_aload_n (pc := 6) (Y := YX2_back) 0 dX2_back_6 rfl rfl) ?_
  refine flp (go_gI (pc := 7) (Y := YX2_back) fF33 (by decide) q1654 (Or.inl rfl) dX2_back_7) (fun v4 => ?_)
  refine im (go_iconst (pc := 10) (Y := YX2_back) (v := 1) dX2_back_10 rfl) ?_
  refine im (go_isub (pc := 11) (Y := YX2_back) dX2_back_11) ?_
  refine bpg (fun v5 he6 => ?_)
  refine im (go_callS (pc := 12) (Y := YX2_back) (Yc := YX2_in) (y := yX2_in) (n := 3) [iV p0, iV 0, iV (v4 - 1)] [] rfl (mX2_in s2 he6) YOK_X2_in rfl q1763 q133 q1762 q1761 (Nat.le_of_ble_eq_true rfl) (Nat.le_of_ble_eq_true rfl) (Nat.le_of_ble_eq_true rfl) dX2_back_12 (st2 := [iV v5]) rfl) ?_
  clear he6
  refine flp2 (go_if_ne (pc := 15) (Y := YX2_back) 24 dX2_back_15 (by decide)) ?_ ?_
  · refine im (go_aload_n (pc := 18) (Y := YX2_back) 0 dX2_back_18 rfl rfl) ?_
    refine im (go_iconst (pc := 19) (Y := YX2_back) (v := 1) dX2_back_19 rfl) ?_
    refine kdg (fun k7 => ?_)
    refine bdg (fun s8 v9 he10 => ?_)
    refine im (go_callV (pc := 20) (Y := YX2_back) (Yc := YX2_isNot) (y := yX2_isNot) (n := 1) (c0 := 2) (q := (RX2, TX2, 37)) this [iV 1] [] rfl rfl k7 (mX2_isNot s2 he10) YOK_X2_isNot rfl q2247 q133 q2246 qs126 q2244 (Nat.le_of_ble_eq_true rfl) (Nat.le_of_ble_eq_true rfl) (Nat.le_of_ble_eq_true rfl) dX2_back_20 (st2 := [iV v9]) rfl) ?_
    clear he10
    refine okg (fun z11 => ?_)
    refine e2 (fun q0 q1 => ?_)
    subst q0
    subst q1
    exact go_zret (pc := 23) (Y := YX2_back) rfl (okZ_nar z11).1 dX2_back_23
  · refine im (go_aload_n (pc := 24) (Y := YX2_back) 0 dX2_back_24 rfl rfl) ?_
    refine flp (go_gR (pc := 25) (Y := YX2_back) fF1015 (by decide) q1652 (Or.inl rfl) dX2_back_25) (fun v12 => ?_)
    refine im (go_bipush (pc := 28) (Y := YX2_back) (v := 8) dX2_back_28 rfl) ?_
    refine im (go_iload_n (pc := 30) (Y := YX2_back) 1 dX2_back_30 rfl rfl) ?_
    refine im (go_imul (pc := 31) (Y := YX2_back) dX2_back_31) ?_
    refine im (go_aload_n (pc := 32) (Y := YX2_back) 0 dX2_back_32 rfl rfl) ?_
    refine flp (go_gR (pc := 33) (Y := YX2_back) fF1013 (by decide) q1650 (Or.inl rfl) dX2_back_33) (fun v13 => ?_)
    refine im (go_iconst (pc := 36) (Y := YX2_back) (v := 0) dX2_back_36 rfl) ?_
    refine im (go_bipush (pc := 37) (Y := YX2_back) (v := 8) dX2_back_37 rfl) ?_
    refine bpg (fun s14 he15 => ?_)
    refine im (go_callS (pc := 39) (Y := YX2_back) (Yc := YX2_copy) (y := yX2_copy) (n := 5) [rV v12, iV (8 * p0), rV v13, iV 0, iV 8] [] rfl (mX2_copy s2 he15) YOK_X2_copy rfl q1926 q133 q1925 q1924 (Nat.le_of_ble_eq_true rfl) (Nat.le_of_ble_eq_true rfl) (Nat.le_of_ble_eq_true rfl) dX2_back_39 (st2 := []) rfl) ?_
    clear he15
    refine im (go_aload_n (pc := 42) (Y := YX2_back) 0 dX2_back_42 rfl rfl) ?_
    refine im (go_iconst (pc := 43) (Y := YX2_back) (v := 0) dX2_back_43 rfl) ?_
    refine flp (go_pI (pc := 44) (Y := YX2_back) fF32 (by decide) q1653 (Or.inl rfl) (Or.inl rfl) rfl rfl rfl dX2_back_44) (fun s16 => ?_)
    refine im (go_iconst (pc := 47) (Y := YX2_back) (v := 1) dX2_back_47 rfl) ?_
    refine e2 (fun q0 q1 => ?_)
    subst q0
    subst q1
    exact go_zret (pc := 48) (Y := YX2_back) rfl rfl dX2_back_48
abbrev YX2_led : mY := (RX2, cX2_led, 4, (Option.some .int), 6, 138, false)
theorem YOK_X2_led : YOK yX2_led 1 := ⟨⟨by decide +kernel, by decide +kernel⟩, by decide +kernel⟩
theorem sX2_led_L4_go {G : gG} {s0 : St} {sE : St} {vE : Int32} (this : Nat) (i1 : Int32) : ∀ (n : Nat) (s1 : St) (v2 : Int32) (v3 : Int32) (o : (St × Int32) ⊕ (St)), sX2_led_L4 this i1 n s1 v2 v3 = some o → (∀ r, o = .inl r → r = (sE, vE)) → (∀ (s4 : St), o = .inr s4 → Go G YX2_led s0 sE (some (iV vE)) 60 [(0, rV (some this))] [] s4) → Go G YX2_led s0 sE (some (iV vE)) 4 [(0, rV (some this)), (1, iV i1), (2, iV v2), (3, iV v3)] [] s1 := by
  intro n
  induction n with
  | zero => intro s1 v2 v3 o h hr hx; rw [sX2_led_L4] at h; cases h
  | succ n ih =>
    intro s1 v2 v3 o h hr hx
    revert h
    rw [sX2_led_L4]
    refine im (go_aload_n (pc := 4) (Y := YX2_led) 0 dX2_led_4 rfl rfl) ?_
    refine flp (go_gI (pc := 5) (Y := YX2_led) fF31 (by decide) q1647 (Or.inl rfl) dX2_led_5) (fun v5 => ?_)
    refine flp2 (go_if_eq (pc := 8) (Y := YX2_led) 60 dX2_led_8 (by decide)) ?_ ?_
    · refine eor (fun hq => ?_)
      exact go_sub [0] rfl (hx _ hq)
    · refine im (go_iload_n (pc := 11) (Y := YX2_led) 3 dX2_led_11 rfl rfl) ?_
      refine im (go_aload_n (pc := 12) (Y := YX2_led) 0 dX2_led_12 rfl rfl) ?_
      refine flp (go_gR (pc := 13) (Y := YX2_led) fF1011 (by decide) q1648 (Or.inl rfl) dX2_led_13) (fun v6 => ?_)
      refine im (go_iconst (pc := 16) (Y := YX2_led) (v := 5) dX2_led_16 rfl) ?_
      refine flp (go_lI1 (pc := 17) (Y := YX2_led) dX2_led_17) (fun v7 => ?_)
      refine flp2 (go_icmp_ge (pc := 18) (Y := YX2_led) 60 dX2_led_18 (by decide)) ?_ ?_
      · refine eor (fun hq => ?_)
        exact go_sub [0] rfl (hx _ hq)
      · refine im (go_aload_n (pc := 21) (Y := YX2_led) 0 dX2_led_21 rfl rfl) ?_
        refine im (go_iload_n (pc := 22) (Y := YX2_led) 3 dX2_led_22 rfl rfl) ?_
        refine kdg (fun k8 => ?_)
        refine bdg (fun s9 v10 he11 => ?_)
        refine im (go_callV (pc := 23) (Y := YX2_led) (Yc := YX2_goOver) (y := yX2_goOver) (n := 1) (c0 := 2) (q := (RX2, TX2, 37)) this [iV v3] [] rfl rfl k8 (mX2_goOver s1 he11) YOK_X2_goOver rfl q2036 q133 q2035 qs109 q2033 (Nat.le_of_ble_eq_true rfl) (Nat.le_of_ble_eq_true rfl) (Nat.le_of_ble_eq_true rfl) dX2_led_23 (st2 := [iV v10]) rfl) ?_
        clear he11
        refine im (go_pop (pc := 26) (Y := YX2_led) dX2_led_26 rfl) ?_
        refine im (go_aload_n (pc := 27) (Y := YX2_led) 0 dX2_led_27 rfl rfl) ?_
        refine flp (go_gI (pc := 28) (Y := YX2_led) fF34 (by decide) q1658 (Or.inl rfl) dX2_led_28) (fun v12 => ?_)
        refine im (go_bipush (pc := 31) (Y := YX2_led) (v := -2) dX2_led_31 rfl) ?_
        refine flp2 (go_icmp_eq (pc := 33) (Y := YX2_led) 39 dX2_led_33 (by decide)) ?_ ?_
        · refine im (go_iload_n (pc := 39) (Y := YX2_led) 2 dX2_led_39 rfl rfl) ?_
          refine im (go_iload_n (pc := 40) (Y := YX2_led) 1 dX2_led_40 rfl rfl) ?_
          refine flp2 (go_icmp_ne (pc := 41) (Y := YX2_led) 51 dX2_led_41 (by decide)) ?_ ?_
          · refine im (go_aload_n (pc := 44) (Y := YX2_led) 0 dX2_led_44 rfl rfl) ?_
            refine im (go_iconst (pc := 45) (Y := YX2_led) (v := 0) dX2_led_45 rfl) ?_
            refine flp (go_pI (pc := 46) (Y := YX2_led) fF19 (by decide) q1633 (Or.inl rfl) (Or.inl rfl) rfl rfl rfl dX2_led_46) (fun s13 => ?_)
            refine im (go_iload_n (pc := 49) (Y := YX2_led) 3 dX2_led_49 rfl rfl) ?_
            refine eor (fun hq => ?_)
            have hq2 := hr _ hq
            obtain ⟨q0, q1⟩ := Prod.mk.inj hq2
            subst q0
            subst q1
            exact go_iret (pc := 50) (Y := YX2_led) rfl dX2_led_50
          · refine im (go_iinc (pc := 51) (Y := YX2_led) 2 (v := (v2 + 1)) (ls2 := [(2, iV (v2 + 1)), (0, rV (some this)), (1, iV i1), (3, iV v3)]) dX2_led_51 rfl rfl (Nat.le_of_ble_eq_true rfl) rfl) ?_
            refine im (go_iinc (pc := 54) (Y := YX2_led) 3 (v := (v3 + 1)) (ls2 := [(3, iV (v3 + 1)), (2, iV (v2 + 1)), (0, rV (some this)), (1, iV i1)]) dX2_led_54 rfl rfl (Nat.le_of_ble_eq_true rfl) rfl) ?_
            refine im (go_goto (pc := 57) (Y := YX2_led) 4 dX2_led_57 (by decide)) ?_
            exact fun hq => go_sub [2, 3, 1, 0] rfl (ih _ _ _ _ hq hr hx)
        · refine im (go_goto (pc := 36) (Y := YX2_led) 54 dX2_led_36 (by decide)) ?_
          refine im (go_iinc (pc := 54) (Y := YX2_led) 3 (v := (v3 + 1)) (ls2 := [(3, iV (v3 + 1)), (0, rV (some this)), (1, iV i1), (2, iV v2)]) dX2_led_54 rfl rfl (Nat.le_of_ble_eq_true rfl) rfl) ?_
          refine im (go_goto (pc := 57) (Y := YX2_led) 4 dX2_led_57 (by decide)) ?_
          exact fun hq => go_sub [1, 2, 3, 0] rfl (ih _ _ _ _ hq hr hx)
theorem mX2_led {G : gG} (s0 : St) {this : Nat} {p0 : Int32} {sE : St} {vE : Int32} (h : sX2_led s0 this p0 = some (sE, vE)) : Mt G YX2_led yX2_led [rV (some this), iV p0] s0 (some (iV vE)) sE := by
  refine go_start (ls0 := [(0, rV (some this)), (1, iV p0)]) (by decide +kernel) rfl (fun h => by cases h) (Nat.le_of_ble_eq_true rfl) rfl ?_
  revert h
  unfold sX2_led
  refine im (go_iconst (pc := 0) (Y := YX2_led) (v := 0) dX2_led_0 rfl) ?_
  refine im (go_istore_n (pc := 1) (Y := YX2_led) (ls2 := [(2, iV 0), (0, rV (some this)), (1, iV p0)]) dX2_led_1 rfl (Nat.le_of_ble_eq_true rfl) rfl) ?_
  refine im (go_iconst (pc := 2) (Y := YX2_led) (v := 0) dX2_led_2 rfl) ?_
  refine im (go_istore_n (pc := 3) (Y := YX2_led) (ls2 := [(3, iV 0), (2, iV 0), (0, rV (some this)), (1, iV p0)]) dX2_led_3 rfl (Nat.le_of_ble_eq_true rfl) rfl) ?_
  refine lcg (fun o18 he16 h17 => ?_)
  refine go_sub [2, 3, 1, 0] rfl (sX2_led_L4_go this p0 FU _ _ _ _ he16 h17.1 (fun s14 hq => ?_))
  have hw := h17.2 s14 hq
  clear he16
  revert hw
  refine im (go_aload_n (pc := 60) (Y := YX2_led) 0 dX2_led_60 rfl rfl) ?_
  refine im (go_iconst (pc := 61) (Y := YX2_led) (v := 1) dX2_led_61 rfl) ?_
  refine flp (go_pI (pc := 62) (Y := YX2_led) fF19 (by decide) q1633 (Or.inl rfl) (Or.inl rfl) rfl rfl rfl dX2_led_62) (fun s15 => ?_)
  refine im (go_iconst (pc := 65) (Y := YX2_led) (v := 0) dX2_led_65 rfl) ?_
  refine e2 (fun q0 q1 => ?_)
  subst q0
  subst q1
  exact go_iret (pc := 66) (Y := YX2_led) rfl dX2_led_66
abbrev YX2_thrown : mY := (RX2, cX2_thrown, 1, (Option.some .int), 0, 0, false)
theorem YOK_X2_thrown : YOK yX2_thrown 0 := ⟨⟨by decide +kernel, by decide +kernel⟩, by decide +kernel⟩
theorem mX2_thrown {G : gG} (s0 : St) {this : Nat} {vE : Int32} (h : sX2_thrown s0 this = some vE) : Mt G YX2_thrown yX2_thrown [rV (some this)] s0 (some (iV vE)) s0 := by
  refine go_start (ls0 := [(0, rV (some this))]) (by decide +kernel) rfl (fun h => by cases h) (Nat.le_of_ble_eq_true rfl) rfl ?_
  revert h
  unfold sX2_thrown
  refine im (go_aload_n (pc := 0) (Y := YX2_thrown) 0 dX2_thrown_0 rfl rfl) ?_
  refine flp (go_gI (pc := 1) (Y := YX2_thrown) fF19 (by decide) q1633 (Or.inl rfl) dX2_thrown_1) (fun v1 => ?_)
  refine e1 (fun q0 => ?_)
  subst q0
  exact go_iret (pc := 4) (Y := YX2_thrown) rfl dX2_thrown_4
abbrev YX2_size : mY := (RX2, cX2_size, 2, (Option.some .int), 1, 22, false)
theorem YOK_X2_size : YOK yX2_size 1 := ⟨⟨by decide +kernel, by decide +kernel⟩, by decide +kernel⟩
theorem mX2_size {G : gG} (s0 : St) {this : Nat} {p0 : Int32} {sE : St} {vE : Int32} (h : sX2_size s0 this p0 = some (sE, vE)) : Mt G YX2_size yX2_size [rV (some this), iV p0] s0 (some (iV vE)) sE := by
  refine go_start (ls0 := [(0, rV (some this)), (1, iV p0)]) (by decide +kernel) rfl (fun h => by cases h) (Nat.le_of_ble_eq_true rfl) rfl ?_
  revert h
  unfold sX2_size
  refine im (go_aload_n (pc := 0) (Y := YX2_size) 0 dX2_size_0 rfl rfl) ?_
  refine im (go_iconst (pc := 1) (Y := YX2_size) (v := 0) dX2_size_1 rfl) ?_
  refine flp (go_pI (pc := 2) (Y := YX2_size) fF19 (by decide) q1633 (Or.inl rfl) (Or.inl rfl) rfl rfl rfl dX2_size_2) (fun s1 => ?_)
  refine im (go_iload_n (pc := 5) (Y := YX2_size) 1 dX2_size_5 rfl rfl) ?_
  refine im (go_bipush (pc := 6) (Y := YX2_size) (v := 11) dX2_size_6 rfl) ?_
  refine flp2 (go_icmp_ne (pc := 8) (Y := YX2_size) 16 dX2_size_8 (by decide)) ?_ ?_
  · refine im (go_aload_n (pc := 11) (Y := YX2_size) 0 dX2_size_11 rfl rfl) ?_
    refine flp (go_gI (pc := 12) (Y := YX2_size) fF20 (by decide) q1635 (Or.inl rfl) dX2_size_12) (fun v2 => ?_)
    refine e2 (fun q0 q1 => ?_)
    subst q0
    subst q1
    exact go_iret (pc := 15) (Y := YX2_size) rfl dX2_size_15
  · refine im (go_aload_n (pc := 16) (Y := YX2_size) 0 dX2_size_16 rfl rfl) ?_
    refine flp (go_gI (pc := 17) (Y := YX2_size) fF31 (by decide) q1647 (Or.inl rfl) dX2_size_17) (fun v3 => ?_)
    refine flp2 (go_if_ne (pc := 20) (Y := YX2_size) 39 dX2_size_20 (by decide)) ?_ ?_
    · refine im (go_iload_n (pc := 23) (Y := YX2_size) 1 dX2_size_23 rfl rfl) ?_
      refine im (go_iconst (pc := 24) (Y := YX2_size) (v := 0) dX2_size_24 rfl) ?_
      refine im (go_bipush (pc := 25) (Y := YX2_size) (v := 10) dX2_size_25 rfl) ?_
      refine bpg (fun v4 he5 => ?_)
      refine im (go_callS (pc := 27) (Y := YX2_size) (Yc := YX2_in) (y := yX2_in) (n := 3) [iV p0, iV 0, iV 10] [] rfl (mX2_in s1 he5) YOK_X2_in rfl q1763 q133 q1762 q1761 (Nat.le_of_ble_eq_true rfl) (Nat.le_of_ble_eq_true rfl) (Nat.le_of_ble_eq_true rfl) dX2_size_27 (st2 := [iV v4]) rfl) ?_
      clear he5
      refine flp2 (go_if_eq (pc := 30) (Y := YX2_size) 37 dX2_size_30 (by decide)) ?_ ?_
      · refine im (go_iconst (pc := 37) (Y := YX2_size) (v := -1) dX2_size_37 rfl) ?_
        refine e2 (fun q0 q1 => ?_)
        subst q0
        subst q1
        exact go_iret (pc := 38) (Y := YX2_size) rfl dX2_size_38
      · refine im (go_iconst (pc := 33) (Y := YX2_size) (v := 0) dX2_size_33 rfl) ?_
        refine im (go_goto (pc := 34) (Y := YX2_size) 38 dX2_size_34 (by decide)) ?_
        refine e2 (fun q0 q1 => ?_)
        subst q0
        subst q1
        exact go_iret (pc := 38) (Y := YX2_size) rfl dX2_size_38
    · refine im (go_iload_n (pc := 39) (Y := YX2_size) 1 dX2_size_39 rfl rfl) ?_
      refine im (go_iconst (pc := 40) (Y := YX2_size) (v := 0) dX2_size_40 rfl) ?_
      refine im (go_bipush (pc := 41) (Y := YX2_size) (v := 8) dX2_size_41 rfl) ?_
      refine bpg (fun v6 he7 => ?_)
      refine im (go_callS (pc := 43) (Y := YX2_size) (Yc := YX2_in) (y := yX2_in) (n := 3) [iV p0, iV 0, iV 8] [] rfl (mX2_in s1 he7) YOK_X2_in rfl q1763 q133 q1762 q1761 (Nat.le_of_ble_eq_true rfl) (Nat.le_of_ble_eq_true rfl) (Nat.le_of_ble_eq_true rfl) dX2_size_43 (st2 := [iV v6]) rfl) ?_
      clear he7
      refine flp2 (go_if_eq (pc := 46) (Y := YX2_size) 56 dX2_size_46 (by decide)) ?_ ?_
      · refine im (go_iload_n (pc := 56) (Y := YX2_size) 1 dX2_size_56 rfl rfl) ?_
        refine im (go_bipush (pc := 57) (Y := YX2_size) (v := 9) dX2_size_57 rfl) ?_
        refine flp2 (go_icmp_ne (pc := 59) (Y := YX2_size) 69 dX2_size_59 (by decide)) ?_ ?_
        · refine im (go_aload_n (pc := 62) (Y := YX2_size) 0 dX2_size_62 rfl rfl) ?_
          refine flp (go_gI (pc := 63) (Y := YX2_size) fF32 (by decide) q1653 (Or.inl rfl) dX2_size_63) (fun v8 => ?_)
          refine im (go_goto (pc := 66) (Y := YX2_size) 83 dX2_size_66 (by decide)) ?_
          refine e2 (fun q0 q1 => ?_)
          subst q0
          subst q1
          exact go_iret (pc := 83) (Y := YX2_size) rfl dX2_size_83
        · refine im (go_iload_n (pc := 69) (Y := YX2_size) 1 dX2_size_69 rfl rfl) ?_
          refine im (go_bipush (pc := 70) (Y := YX2_size) (v := 10) dX2_size_70 rfl) ?_
          refine flp2 (go_icmp_ne (pc := 72) (Y := YX2_size) 82 dX2_size_72 (by decide)) ?_ ?_
          · refine im (go_aload_n (pc := 75) (Y := YX2_size) 0 dX2_size_75 rfl rfl) ?_
            refine flp (go_gI (pc := 76) (Y := YX2_size) fF33 (by decide) q1654 (Or.inl rfl) dX2_size_76) (fun v9 => ?_)
            refine im (go_goto (pc := 79) (Y := YX2_size) 83 dX2_size_79 (by decide)) ?_
            refine e2 (fun q0 q1 => ?_)
            subst q0
            subst q1
            exact go_iret (pc := 83) (Y := YX2_size) rfl dX2_size_83
          · refine im (go_iconst (pc := 82) (Y := YX2_size) (v := -1) dX2_size_82 rfl) ?_
            refine e2 (fun q0 q1 => ?_)
            subst q0
            subst q1
            exact go_iret (pc := 83) (Y := YX2_size) rfl dX2_size_83
      · refine im (go_aload_n (pc := 49) (Y := YX2_size) 0 dX2_size_49 rfl rfl) ?_
        refine flp (go_gR (pc := 50) (Y := YX2_size) fF1011 (by decide) q1648 (Or.inl rfl) dX2_size_50) (fun v10 => ?_)
        refine im (go_iload_n (pc := 53) (Y := YX2_size) 1 dX2_size_53 rfl rfl) ?_
        refine flp (go_lI1 (pc := 54) (Y := YX2_size) dX2_size_54) (fun v11 => ?_)
        refine e2 (fun q0 q1 => ?_)
        subst q0
        subst q1
        exact go_iret (pc := 55) (Y := YX2_size) rfl dX2_size_55
abbrev YX2_trouble : mY := (RX2, cX2_trouble, 1, (Option.some .int), 0, 0, false)
theorem YOK_X2_trouble : YOK yX2_trouble 0 := ⟨⟨by decide +kernel, by decide +kernel⟩, by decide +kernel⟩
theorem mX2_trouble {G : gG} (s0 : St) {this : Nat} {sE : St} {vE : Int32} (h : sX2_trouble s0 this = some (sE, vE)) : Mt G YX2_trouble yX2_trouble [rV (some this)] s0 (some (iV vE)) sE := by
  refine go_start (ls0 := [(0, rV (some this))]) (by decide +kernel) rfl (fun h => by cases h) (Nat.le_of_ble_eq_true rfl) rfl ?_
  revert h
  unfold sX2_trouble
  refine im (go_aload_n (pc := 0) (Y := YX2_trouble) 0 dX2_trouble_0 rfl rfl) ?_
  refine im (go_iconst (pc := 1) (Y := YX2_trouble) (v := 0) dX2_trouble_1 rfl) ?_
  refine flp (go_pI (pc := 2) (Y := YX2_trouble) fF19 (by decide) q1633 (Or.inl rfl) (Or.inl rfl) rfl rfl rfl dX2_trouble_2) (fun s1 => ?_)
  refine im (go_aload_n (pc := 5) (Y := YX2_trouble) 0 dX2_trouble_5 rfl rfl) ?_
  refine flp (go_gI (pc := 6) (Y := YX2_trouble) fF29 (by decide) q1644 (Or.inl rfl) dX2_trouble_6) (fun v2 => ?_)
  refine e2 (fun q0 q1 => ?_)
  subst q0
  subst q1
  exact go_iret (pc := 9) (Y := YX2_trouble) rfl dX2_trouble_9
