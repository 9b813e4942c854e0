/-! WALKS (by gen/mkwalk.py out of the bytecode) -/
set_option maxRecDepth 100000
abbrev YJ0_init : mY := (RJ0, cJ0_init, 1, (Option.none : Option Jvm.ClassFile.FieldType), 1, 26, true)
theorem YOK_J0_init : YOK yJ0_init 0 := ⟨⟨by decide +kernel, by decide +kernel⟩, by decide +kernel⟩
theorem mJ0_init {G : gG} (s0 : St) {this : Nat} : Mt G YJ0_init yJ0_init [rV (some this)] s0 none s0 := by
  refine go_start (ls0 := [(0, rV (some this))]) (by decide +kernel) rfl (fun _ => rfl) (Nat.le_of_ble_eq_true rfl) rfl ?_
  have hT : (some () : Option Unit) = some () := rfl
  revert hT
  refine im (go_aload_n (pc := 0) (Y := YJ0_init) 0 dJ0_init_0 rfl rfl) ?_
  refine im (go_objI (pc := 1) (Y := YJ0_init) q180 (Nat.le_of_ble_eq_true rfl) (Nat.le_of_ble_eq_true rfl) q167 q168 dJ0_init_1) ?_
  intro _
  exact go_vret (pc := 4) (Y := YJ0_init) rfl dJ0_init_4
abbrev YJ1_init : mY := (RJ1, cJ1_init, 1, (Option.none : Option Jvm.ClassFile.FieldType), 2, 46, true)
theorem YOK_J1_init : YOK yJ1_init 0 := ⟨⟨by decide +kernel, by decide +kernel⟩, by decide +kernel⟩
theorem mJ1_init {G : gG} (s0 : St) {this : Nat} {sE : St} (h : sJ1_init s0 this = some sE) : Mt G YJ1_init yJ1_init [rV (some this)] s0 none sE := by
  refine go_start (ls0 := [(0, rV (some this))]) (by decide +kernel) rfl (fun _ => rfl) (Nat.le_of_ble_eq_true rfl) rfl ?_
  revert h
  unfold sJ1_init
  refine im (go_aload_n (pc := 0) (Y := YJ1_init) 0 dJ1_init_0 rfl rfl) ?_
  refine im (go_callI (pc := 1) (Y := YJ1_init) (Yc := YJ0_init) (y := yJ0_init) (n := 0) this [] [] rfl (mJ0_init s0) YOK_J0_init rfl rfl q179 rfl q130 q178 q177 (Nat.le_of_ble_eq_true rfl) (Nat.le_of_ble_eq_true rfl) (Nat.le_of_ble_eq_true rfl) dJ1_init_1 (st2 := []) rfl) ?_
  refine im (go_aload_n (pc := 4) (Y := YJ1_init) 0 dJ1_init_4 rfl rfl) ?_
  refine im (go_iconst (pc := 5) (Y := YJ1_init) (v := 0) dJ1_init_5 rfl) ?_
  refine flp (go_pI (pc := 6) (Y := YJ1_init) fF17 (by decide) q185 (Or.inl rfl) (Or.inl rfl) rfl rfl rfl dJ1_init_6) (fun s2 => ?_)
  refine e1 (fun q0 => ?_)
  subst q0
  exact go_vret (pc := 9) (Y := YJ1_init) rfl dJ1_init_9
abbrev YJ2_init : mY := (RJ2, cJ2_init, 1, (Option.none : Option Jvm.ClassFile.FieldType), 3, 66, true)
theorem YOK_J2_init : YOK yJ2_init 0 := ⟨⟨by decide +kernel, by decide +kernel⟩, by decide +kernel⟩
theorem mJ2_init {G : gG} (s0 : St) {this : Nat} {sE : St} (h : sJ2_init s0 this = some sE) : Mt G YJ2_init yJ2_init [rV (some this)] s0 none sE := by
  refine go_start (ls0 := [(0, rV (some this))]) (by decide +kernel) rfl (fun _ => rfl) (Nat.le_of_ble_eq_true rfl) rfl ?_
  revert h
  unfold sJ2_init
  refine im (go_aload_n (pc := 0) (Y := YJ2_init) 0 dJ2_init_0 rfl rfl) ?_
  refine bpg (fun s1 he2 => ?_)
  refine im (go_callI (pc := 1) (Y := YJ2_init) (Yc := YJ1_init) (y := yJ1_init) (n := 0) this [] [] rfl (mJ1_init s0 he2) YOK_J1_init rfl rfl q176 rfl q131 q175 q174 (Nat.le_of_ble_eq_true rfl) (Nat.le_of_ble_eq_true rfl) (Nat.le_of_ble_eq_true rfl) dJ2_init_1 (st2 := []) rfl) ?_
  clear he2
  refine im (go_aload_n (pc := 4) (Y := YJ2_init) 0 dJ2_init_4 rfl rfl) ?_
  refine im (go_gsR (pc := 5) (Y := YJ2_init) (i := 60) (O := "java/util/ArrayList") (f := "DEFAULTCAPACITY_EMPTY_ELEMENTDATA") (d := "[Ljava/lang/Object;") (by decide +kernel) q181 rfl dJ2_init_5) ?_
  refine flp (go_pR (pc := 8) (Y := YJ2_init) fF1008 (by decide) q183 (Or.inl rfl) (Or.inl rfl) rfl (Or.inr ⟨_, rfl⟩) dJ2_init_8) (fun s3 => ?_)
  refine e1 (fun q0 => ?_)
  subst q0
  exact go_vret (pc := 11) (Y := YJ2_init) rfl dJ2_init_11
abbrev YX1_in : mY := (RX1, cX1_in, 3, (Option.some .boolean), 0, 0, false)
theorem YOK_X1_in : YOK yX1_in 3 := ⟨⟨by decide +kernel, by decide +kernel⟩, by decide +kernel⟩
theorem mX1_in {G : gG} (s0 : St) {p0 : Int32} {p1 : Int32} {p2 : Int32} {vE : Int32} (h : sX1_in s0 p0 p1 p2 = some vE) : Mt G YX1_in yX1_in [iV p0, iV p1, iV p2] s0 (some (iV vE)) s0 := by
  refine go_start (ls0 := [(0, iV p0), (1, iV p1), (2, iV p2)]) (by decide +kernel) rfl (fun h => by cases h) (Nat.le_of_ble_eq_true rfl) rfl ?_
  revert h
  unfold sX1_in
  refine im (go_iload_n (pc := 0) (Y := YX1_in) 0 dX1_in_0 rfl rfl) ?_
  refine im (go_iload_n (pc := 1) (Y := YX1_in) 1 dX1_in_1 rfl rfl) ?_
  refine flp2 (go_icmp_lt (pc := 2) (Y := YX1_in) 14 dX1_in_2 (by decide)) ?_ ?_
  · refine im (go_iconst (pc := 14) (Y := YX1_in) (v := 0) dX1_in_14 rfl) ?_
    refine e1 (fun q0 => ?_)
    subst q0
    exact go_zret (pc := 15) (Y := YX1_in) rfl rfl dX1_in_15
  · refine im (go_iload_n (pc := 5) (Y := YX1_in) 0 dX1_in_5 rfl rfl) ?_
    refine im (go_iload_n (pc := 6) (Y := YX1_in) 2 dX1_in_6 rfl rfl) ?_
    refine flp2 (go_icmp_gt (pc := 7) (Y := YX1_in) 14 dX1_in_7 (by decide)) ?_ ?_
    · refine im (go_iconst (pc := 14) (Y := YX1_in) (v := 0) dX1_in_14 rfl) ?_
      refine e1 (fun q0 => ?_)
      subst q0
      exact go_zret (pc := 15) (Y := YX1_in) rfl rfl dX1_in_15
    · refine im (go_iconst (pc := 10) (Y := YX1_in) (v := 1) dX1_in_10 rfl) ?_
      refine im (go_goto (pc := 11) (Y := YX1_in) 15 dX1_in_11 (by decide)) ?_
      refine e1 (fun q0 => ?_)
      subst q0
      exact go_zret (pc := 15) (Y := YX1_in) rfl rfl dX1_in_15
abbrev YJ3_init : mY := (RJ3, cJ3_init, 2, (Option.none : Option Jvm.ClassFile.FieldType), 1, 26, true)
theorem YOK_J3_init : YOK yJ3_init 1 := ⟨⟨by decide +kernel, by decide +kernel⟩, by decide +kernel⟩
theorem mJ3_init {G : gG} (s0 : St) {this : Nat} {p0 : Int32} {sE : St} (h : sJ3_init s0 this p0 = some sE) : Mt G YJ3_init yJ3_init [rV (some this), iV p0] s0 none sE := by
  refine go_start (ls0 := [(0, rV (some this)), (1, iV p0)]) (by decide +kernel) rfl (fun _ => rfl) (Nat.le_of_ble_eq_true rfl) rfl ?_
  revert h
  unfold sJ3_init
  refine im (go_aload_n (pc := 0) (Y := YJ3_init) 0 dJ3_init_0 rfl rfl) ?_
  refine im (go_objI (pc := 1) (Y := YJ3_init) q409 (Nat.le_of_ble_eq_true rfl) (Nat.le_of_ble_eq_true rfl) q167 q168 dJ3_init_1) ?_
  refine im (go_gsI (pc := 4) (Y := YJ3_init) (v := 1) (O := "java/lang/String") (f := "COMPACT_STRINGS") (d := "Z") (by decide +kernel) q410 rfl dJ3_init_4) ?_
  refine flp2 (go_if_eq (pc := 7) (Y := YJ3_init) 25 dJ3_init_7 (by decide)) ?_ ?_
  · exact nog
  · refine im (go_aload_n (pc := 10) (Y := YJ3_init) 0 dJ3_init_10 rfl rfl) ?_
    refine im (go_iload_n (pc := 11) (Y := YJ3_init) 1 dJ3_init_11 rfl rfl) ?_
    refine flp (go_nwA2 (pc := 12) (Y := YJ3_init) dJ3_init_12) (fun s1 a2 => ?_)
    refine flp (go_pR (pc := 14) (Y := YJ3_init) fF1030 (by decide) q419 (Or.inl rfl) (Or.inl rfl) rfl (Or.inr ⟨_, rfl⟩) dJ3_init_14) (fun s3 => ?_)
    refine im (go_aload_n (pc := 17) (Y := YJ3_init) 0 dJ3_init_17 rfl rfl) ?_
    refine im (go_iconst (pc := 18) (Y := YJ3_init) (v := 0) dJ3_init_18 rfl) ?_
    refine flp (go_pI (pc := 19) (Y := YJ3_init) fF57 (by decide) q420 (Or.inl rfl) (Or.inl rfl) rfl rfl rfl dJ3_init_19) (fun s4 => ?_)
    refine im (go_goto (pc := 22) (Y := YJ3_init) 38 dJ3_init_22 (by decide)) ?_
    refine e1 (fun q0 => ?_)
    subst q0
    exact go_vret (pc := 38) (Y := YJ3_init) rfl dJ3_init_38
abbrev YJ4_init : mY := (RJ4, cJ4_init, 1, (Option.none : Option Jvm.ClassFile.FieldType), 2, 47, true)
theorem YOK_J4_init : YOK yJ4_init 0 := ⟨⟨by decide +kernel, by decide +kernel⟩, by decide +kernel⟩
theorem mJ4_init {G : gG} (s0 : St) {this : Nat} {sE : St} (h : sJ4_init s0 this = some sE) : Mt G YJ4_init yJ4_init [rV (some this)] s0 none sE := by
  refine go_start (ls0 := [(0, rV (some this))]) (by decide +kernel) rfl (fun _ => rfl) (Nat.le_of_ble_eq_true rfl) rfl ?_
  revert h
  unfold sJ4_init
  refine im (go_aload_n (pc := 0) (Y := YJ4_init) 0 dJ4_init_0 rfl rfl) ?_
  refine im (go_bipush (pc := 1) (Y := YJ4_init) (v := 16) dJ4_init_1 rfl) ?_
  refine bpg (fun s1 he2 => ?_)
  refine im (go_callI (pc := 3) (Y := YJ4_init) (Yc := YJ3_init) (y := yJ3_init) (n := 1) this [iV 16] [] rfl (mJ3_init s0 he2) YOK_J3_init rfl rfl q408 rfl q138 q407 q406 (Nat.le_of_ble_eq_true rfl) (Nat.le_of_ble_eq_true rfl) (Nat.le_of_ble_eq_true rfl) dJ4_init_3 (st2 := []) rfl) ?_
  clear he2
  refine e1 (fun q0 => ?_)
  subst q0
  exact go_vret (pc := 6) (Y := YJ4_init) rfl dJ4_init_6
abbrev YJ3_ensureCapacityInternal : mY := (RJ3, cJ3_ensureCapacityInternal, 3, (Option.none : Option Jvm.ClassFile.FieldType), 0, 0, false)
theorem YOK_J3_ensureCapacityInternal : YOK yJ3_ensureCapacityInternal 1 := ⟨⟨by decide +kernel, by decide +kernel⟩, by decide +kernel⟩
theorem mJ3_ensureCapacityInternal {G : gG} (s0 : St) {this : Nat} {p0 : Int32} (h : sJ3_ensureCapacityInternal s0 this p0 = some ()) : Mt G YJ3_ensureCapacityInternal yJ3_ensureCapacityInternal [rV (some this), iV p0] s0 none s0 := by
  refine go_start (ls0 := [(0, rV (some this)), (1, iV p0)]) (by decide +kernel) rfl (fun h => by cases h) (Nat.le_of_ble_eq_true rfl) rfl ?_
  revert h
  unfold sJ3_ensureCapacityInternal
  refine im (go_aload_n (pc := 0) (Y := YJ3_ensureCapacityInternal) 0 dJ3_ensureCapacityInternal_0 rfl rfl) ?_
  refine flp (go_gR (pc := 1) (Y := YJ3_ensureCapacityInternal) fF1030 (by decide) q419 (Or.inl rfl) dJ3_ensureCapacityInternal_1) (fun v1 => ?_)
  refine flp (go_aN (pc := 4) (Y := YJ3_ensureCapacityInternal) dJ3_ensureCapacityInternal_4) (fun v2 => ?_)
  refine im (go_aload_n (pc := 5) (Y := YJ3_ensureCapacityInternal) 0 dJ3_ensureCapacityInternal_5 rfl rfl) ?_
  refine flp (go_gI (pc := 6) (Y := YJ3_ensureCapacityInternal) fF57 (by decide) q420 (Or.inl rfl) dJ3_ensureCapacityInternal_6) (fun v3 => ?_)
  refine im (go_ishr (pc := 9) (Y := YJ3_ensureCapacityInternal) dJ3_ensureCapacityInternal_9) ?_
  refine im (go_istore_n (pc := 10) (Y := YJ3_ensureCapacityInternal) (ls2 := [(2, iV (v2 >>> (v3 &&& 31))), (0, rV (some this)), (1, iV p0)]) dJ3_ensureCapacityInternal_10 rfl (Nat.le_of_ble_eq_true rfl) rfl) ?_
  refine im (go_iload_n (pc := 11) (Y := YJ3_ensureCapacityInternal) 2 dJ3_ensureCapacityInternal_11 rfl rfl) ?_
  refine im (go_iload_n (pc := 12) (Y := YJ3_ensureCapacityInternal) 0 dJ3_ensureCapacityInternal_12 rfl rfl) ?_
  refine im (go_isub (pc := 13) (Y := YJ3_ensureCapacityInternal) dJ3_ensureCapacityInternal_13) ?_
  refine flp2 (go_if_le (pc := 14) (Y := YJ3_ensureCapacityInternal) 38 dJ3_ensureCapacityInternal_14 (by decide)) ?_ ?_
  · intro _
    exact go_vret (pc := 38) (Y := YJ3_ensureCapacityInternal) rfl dJ3_ensureCapacityInternal_38
  · exact nog
abbrev YJ3_isLatin1 : mY := (RJ3, cJ3_isLatin1, 1, (Option.some .boolean), 0, 0, false)
theorem YOK_J3_isLatin1 : YOK yJ3_isLatin1 0 := ⟨⟨by decide +kernel, by decide +kernel⟩, by decide +kernel⟩
theorem mJ3_isLatin1 {G : gG} (s0 : St) {this : Nat} {vE : Int32} (h : sJ3_isLatin1 s0 this = some vE) : Mt G YJ3_isLatin1 yJ3_isLatin1 [rV (some this)] s0 (some (iV vE)) s0 := by
  refine go_start (ls0 := [(0, rV (some this))]) (by decide +kernel) rfl (fun h => by cases h) (Nat.le_of_ble_eq_true rfl) rfl ?_
  revert h
  unfold sJ3_isLatin1
  refine im (go_gsI (pc := 0) (Y := YJ3_isLatin1) (v := 1) (O := "java/lang/String") (f := "COMPACT_STRINGS") (d := "Z") (by decide +kernel) q410 rfl dJ3_isLatin1_0) ?_
  refine flp2 (go_if_eq (pc := 3) (Y := YJ3_isLatin1) 17 dJ3_isLatin1_3 (by decide)) ?_ ?_
  · refine im (go_iconst (pc := 17) (Y := YJ3_isLatin1) (v := 0) dJ3_isLatin1_17 rfl) ?_
    refine e1 (fun q0 => ?_)
    subst q0
    exact go_zret (pc := 18) (Y := YJ3_isLatin1) rfl rfl dJ3_isLatin1_18
  · refine im (go_aload_n (pc := 6) (Y := YJ3_isLatin1) 0 dJ3_isLatin1_6 rfl rfl) ?_
    refine flp (go_gI (pc := 7) (Y := YJ3_isLatin1) fF57 (by decide) q420 (Or.inl rfl) dJ3_isLatin1_7) (fun v1 => ?_)
    refine flp2 (go_if_ne (pc := 10) (Y := YJ3_isLatin1) 17 dJ3_isLatin1_10 (by decide)) ?_ ?_
    · refine im (go_iconst (pc := 13) (Y := YJ3_isLatin1) (v := 1) dJ3_isLatin1_13 rfl) ?_
      refine im (go_goto (pc := 14) (Y := YJ3_isLatin1) 18 dJ3_isLatin1_14 (by decide)) ?_
      refine e1 (fun q0 => ?_)
      subst q0
      exact go_zret (pc := 18) (Y := YJ3_isLatin1) rfl rfl dJ3_isLatin1_18
    · refine im (go_iconst (pc := 17) (Y := YJ3_isLatin1) (v := 0) dJ3_isLatin1_17 rfl) ?_
      refine e1 (fun q0 => ?_)
      subst q0
      exact go_zret (pc := 18) (Y := YJ3_isLatin1) rfl rfl dJ3_isLatin1_18
abbrev YJ10_canEncode : mY := (RJ10, cJ10_canEncode, 1, (Option.some .boolean), 0, 0, false)
theorem YOK_J10_canEncode : YOK yJ10_canEncode 1 := ⟨⟨by decide +kernel, by decide +kernel⟩, by decide +kernel⟩
theorem mJ10_canEncode {G : gG} (s0 : St) {p0 : Int32} {vE : Int32} (h : sJ10_canEncode s0 p0 = some vE) : Mt G YJ10_canEncode yJ10_canEncode [iV p0] s0 (some (iV vE)) s0 := by
  refine go_start (ls0 := [(0, iV p0)]) (by decide +kernel) rfl (fun h => by cases h) (Nat.le_of_ble_eq_true rfl) rfl ?_
  revert h
  unfold sJ10_canEncode
  refine im (go_iload_n (pc := 0) (Y := YJ10_canEncode) 0 dJ10_canEncode_0 rfl rfl) ?_
  refine im (go_sipush (pc := 1) (Y := YJ10_canEncode) (v := 255) dJ10_canEncode_1 rfl) ?_
  refine flp2 (go_icmp_gt (pc := 4) (Y := YJ10_canEncode) 11 dJ10_canEncode_4 (by decide)) ?_ ?_
  · refine im (go_iconst (pc := 11) (Y := YJ10_canEncode) (v := 0) dJ10_canEncode_11 rfl) ?_
    refine e1 (fun q0 => ?_)
    subst q0
    exact go_zret (pc := 12) (Y := YJ10_canEncode) rfl rfl dJ10_canEncode_12
  · refine im (go_iconst (pc := 7) (Y := YJ10_canEncode) (v := 1) dJ10_canEncode_7 rfl) ?_
    refine im (go_goto (pc := 8) (Y := YJ10_canEncode) 12 dJ10_canEncode_8 (by decide)) ?_
    refine e1 (fun q0 => ?_)
    subst q0
    exact go_zret (pc := 12) (Y := YJ10_canEncode) rfl rfl dJ10_canEncode_12
abbrev YJ3_append : mY := (RJ3, cJ3_append, 2, (Option.some (.object "java/lang/AbstractStringBuilde\x72")), 1, 22, false)
theorem YOK_J3_append : YOK yJ3_append 1 := ⟨⟨by decide +kernel, by decide +kernel⟩, by decide +kernel⟩
theorem mJ3_append {G : gG} (s0 : St) {this : Nat} {p0 : Int32} {sE : St} {vE : Option Nat} (h : sJ3_append s0 this p0 = some (sE, vE)) : Mt G YJ3_append yJ3_append [rV (some this), iV p0] s0 (some (rV vE)) sE := by
  refine go_start (ls0 := [(0, rV (some this)), (1, iV p0)]) (by decide +kernel) rfl (fun h => by cases h) (Nat.le_of_ble_eq_true rfl) rfl ?_
  revert h
  unfold sJ3_append
  refine im (go_aload_n (pc := 0) (Y := YJ3_append) 0 dJ3_append_0 rfl rfl) ?_
  refine im (go_aload_n (pc := 1) (Y := YJ3_append) 0 dJ3_append_1 rfl rfl) ?_
  refine flp (go_gI (pc := 2) (Y := YJ3_append) fF59 (by decide) q422 (Or.inl rfl) dJ3_append_2) (fun v1 => ?_)
  refine im (go_iconst (pc := 5) (Y := YJ3_append) (v := 1) dJ3_append_5 rfl) ?_
  refine im (go_iadd (pc := 6) (Y := YJ3_append) dJ3_append_6) ?_
  refine kdg (fun k2 => ?_)
  refine bpg (fun u13 he3 => ?_)
  refine im (go_callE (pc := 7) (Y := YJ3_append) (Yc := YJ3_ensureCapacityInternal) (y := yJ3_ensureCapacityInternal) (n := 1) this [iV (v1 + 1)] [] rfl rfl k2 (mJ3_ensureCapacityInternal s0 he3) YOK_J3_ensureCapacityInternal rfl q442 q138 q441 q439 (Nat.le_of_ble_eq_true rfl) (Nat.le_of_ble_eq_true rfl) (Nat.le_of_ble_eq_true rfl) dJ3_append_7 (st2 := []) rfl) ?_
  clear he3
  refine im (go_aload_n (pc := 10) (Y := YJ3_append) 0 dJ3_append_10 rfl rfl) ?_
  refine kdg (fun k4 => ?_)
  refine bpg (fun v5 he6 => ?_)
  refine im (go_callU (pc := 11) (Y := YJ3_append) (Yc := YJ3_isLatin1) (y := yJ3_isLatin1) (n := 0) (c0 := 7) (q := (RJ4, TJ4, 4)) (x := ⟨"java/lang/AbstractStringBuilde\x72", "isLatin1", "()Z"⟩) (owner := "java/lang/AbstractStringBuilde\x72") this [] [] rfl rfl k4 (mJ3_isLatin1 s0 he6) ⟨⟨by decide +kernel, by decide +kernel⟩, by decide +kernel⟩ rfl q478 q138 q475 q476 (by decide) q475 q478 q477 q474 (Nat.le_of_ble_eq_true rfl) (Nat.le_of_ble_eq_true rfl) (Nat.le_of_ble_eq_true rfl) dJ3_append_11 (st2 := [iV v5]) rfl) ?_
  clear he6
  refine flp2 (go_if_eq (pc := 14) (Y := YJ3_append) 45 dJ3_append_14 (by decide)) ?_ ?_
  · exact nog
  · refine im (go_iload_n (pc := 17) (Y := YJ3_append) 1 dJ3_append_17 rfl rfl) ?_
    refine bpg (fun v7 he8 => ?_)
    refine im (go_callS (pc := 18) (Y := YJ3_append) (Yc := YJ10_canEncode) (y := yJ10_canEncode) (n := 1) [iV p0] [] rfl (mJ10_canEncode s0 he8) YOK_J10_canEncode rfl q481 q146 q480 q479 (Nat.le_of_ble_eq_true rfl) (Nat.le_of_ble_eq_true rfl) (Nat.le_of_ble_eq_true rfl) dJ3_append_18 (st2 := [iV v7]) rfl) ?_
    clear he8
    refine flp2 (go_if_eq (pc := 21) (Y := YJ3_append) 45 dJ3_append_21 (by decide)) ?_ ?_
    · exact nog
    · refine im (go_aload_n (pc := 24) (Y := YJ3_append) 0 dJ3_append_24 rfl rfl) ?_
      refine flp (go_gR (pc := 25) (Y := YJ3_append) fF1030 (by decide) q419 (Or.inl rfl) dJ3_append_25) (fun v9 => ?_)
      refine im (go_aload_n (pc := 28) (Y := YJ3_append) 0 dJ3_append_28 rfl rfl) ?_
      refine im (go_dup (pc := 29) (Y := YJ3_append) dJ3_append_29 rfl) ?_
      refine flp (go_gI (pc := 30) (Y := YJ3_append) fF59 (by decide) q422 (Or.inl rfl) dJ3_append_30) (fun v10 => ?_)
      refine im (go_dup_x1 (pc := 33) (Y := YJ3_append) dJ3_append_33 rfl rfl) ?_
      refine im (go_iconst (pc := 34) (Y := YJ3_append) (v := 1) dJ3_append_34 rfl) ?_
      refine im (go_iadd (pc := 35) (Y := YJ3_append) dJ3_append_35) ?_
      refine flp (go_pI (pc := 36) (Y := YJ3_append) fF59 (by decide) q422 (Or.inl rfl) (Or.inl rfl) rfl rfl rfl dJ3_append_36) (fun s11 => ?_)
      refine im (go_iload_n (pc := 39) (Y := YJ3_append) 1 dJ3_append_39 rfl rfl) ?_
      refine im (go_i2b (pc := 40) (Y := YJ3_append) dJ3_append_40) ?_
      refine flp (go_tB (pc := 41) (Y := YJ3_append) dJ3_append_41) (fun s12 => ?_)
      refine im (go_goto (pc := 42) (Y := YJ3_append) 75 dJ3_append_42 (by decide)) ?_
      refine im (go_aload_n (pc := 75) (Y := YJ3_append) 0 dJ3_append_75 rfl rfl) ?_
      refine e2 (fun q0 q1 => ?_)
      subst q0
      subst q1
      exact go_aret (pc := 76) (Y := YJ3_append) rfl (Or.inl ⟨_, rfl⟩) dJ3_append_76
abbrev YJ4_append : mY := (RJ4, cJ4_append, 2, (Option.some (.object "java/lang/StringBuilde\x72")), 2, 43, false)
theorem YOK_J4_append : YOK yJ4_append 1 := ⟨⟨by decide +kernel, by decide +kernel⟩, by decide +kernel⟩
theorem mJ4_append {G : gG} (s0 : St) {this : Nat} {p0 : Int32} {sE : St} {vE : Option Nat} (h : sJ4_append s0 this p0 = some (sE, vE)) : Mt G YJ4_append yJ4_append [rV (some this), iV p0] s0 (some (rV vE)) sE := by
  refine go_start (ls0 := [(0, rV (some this)), (1, iV p0)]) (by decide +kernel) rfl (fun h => by cases h) (Nat.le_of_ble_eq_true rfl) rfl ?_
  revert h
  unfold sJ4_append
  refine im (go_aload_n (pc := 0) (Y := YJ4_append) 0 dJ4_append_0 rfl rfl) ?_
  refine im (go_iload_n (pc := 1) (Y := YJ4_append) 1 dJ4_append_1 rfl rfl) ?_
  refine kdg (fun k4 => ?_)
  refine bdg (fun s1 v2 he3 => ?_)
  refine im (go_callSU (pc := 2) (Y := YJ4_append) (Yc := YJ3_append) (y := yJ3_append) (n := 1) (c0 := 7) (q := (RJ4, TJ4, 4)) this [iV p0] [] rfl rfl k4 (mJ3_append s0 he3) YOK_J3_append rfl q438 q138 q437 q2292 q431 (by decide) q436 (Nat.le_of_ble_eq_true rfl) (Nat.le_of_ble_eq_true rfl) (Nat.le_of_ble_eq_true rfl) dJ4_append_2 (st2 := [rV v2]) rfl) ?_
  clear he3
  refine im (go_pop (pc := 5) (Y := YJ4_append) dJ4_append_5 rfl) ?_
  refine im (go_aload_n (pc := 6) (Y := YJ4_append) 0 dJ4_append_6 rfl rfl) ?_
  refine e2 (fun q0 q1 => ?_)
  subst q0
  subst q1
  exact go_aret (pc := 7) (Y := YJ4_append) rfl (Or.inl ⟨_, rfl⟩) dJ4_append_7
abbrev YJ3_getValue : mY := (RJ3, cJ3_getValue, 1, (Option.some (.array .byte)), 0, 0, false)
theorem YOK_J3_getValue : YOK yJ3_getValue 0 := ⟨⟨by decide +kernel, by decide +kernel⟩, by decide +kernel⟩
theorem mJ3_getValue {G : gG} (s0 : St) {this : Nat} {vE : Option Nat} (h : sJ3_getValue s0 this = some vE) : Mt G YJ3_getValue yJ3_getValue [rV (some this)] s0 (some (rV vE)) s0 := by
  refine go_start (ls0 := [(0, rV (some this))]) (by decide +kernel) rfl (fun h => by cases h) (Nat.le_of_ble_eq_true rfl) rfl ?_
  revert h
  unfold sJ3_getValue
  refine im (go_aload_n (pc := 0) (Y := YJ3_getValue) 0 dJ3_getValue_0 rfl rfl) ?_
  refine flp (go_gR (pc := 1) (Y := YJ3_getValue) fF1030 (by decide) q419 (Or.inl rfl) dJ3_getValue_1) (fun v1 => ?_)
  refine e1 (fun q0 => ?_)
  subst q0
  exact go_aret (pc := 4) (Y := YJ3_getValue) rfl (Or.inr ⟨_, rfl⟩) dJ3_getValue_4
abbrev YJ3_length : mY := (RJ3, cJ3_length, 1, (Option.some .int), 0, 0, false)
theorem YOK_J3_length : YOK yJ3_length 0 := ⟨⟨by decide +kernel, by decide +kernel⟩, by decide +kernel⟩
theorem mJ3_length {G : gG} (s0 : St) {this : Nat} {vE : Int32} (h : sJ3_length s0 this = some vE) : Mt G YJ3_length yJ3_length [rV (some this)] s0 (some (iV vE)) s0 := by
  refine go_start (ls0 := [(0, rV (some this))]) (by decide +kernel) rfl (fun h => by cases h) (Nat.le_of_ble_eq_true rfl) rfl ?_
  revert h
  unfold sJ3_length
  refine im (go_aload_n (pc := 0) (Y := YJ3_length) 0 dJ3_length_0 rfl rfl) ?_
  refine flp (go_gI (pc := 1) (Y := YJ3_length) fF59 (by decide) q422 (Or.inl rfl) dJ3_length_1) (fun v1 => ?_)
  refine e1 (fun q0 => ?_)
  subst q0
  exact go_iret (pc := 4) (Y := YJ3_length) rfl dJ3_length_4
abbrev YJ4_length : mY := (RJ4, cJ4_length, 1, (Option.some .int), 1, 20, false)
theorem YOK_J4_length : YOK yJ4_length 0 := ⟨⟨by decide +kernel, by decide +kernel⟩, by decide +kernel⟩
theorem mJ4_length {G : gG} (s0 : St) {this : Nat} {vE : Int32} (h : sJ4_length s0 this = some vE) : Mt G YJ4_length yJ4_length [rV (some this)] s0 (some (iV vE)) s0 := by
  refine go_start (ls0 := [(0, rV (some this))]) (by decide +kernel) rfl (fun h => by cases h) (Nat.le_of_ble_eq_true rfl) rfl ?_
  revert h
  unfold sJ4_length
  refine im (go_aload_n (pc := 0) (Y := YJ4_length) 0 dJ4_length_0 rfl rfl) ?_
  refine kdg (fun k3 => ?_)
  refine bpg (fun v1 he2 => ?_)
  refine im (go_callSU (pc := 1) (Y := YJ4_length) (Yc := YJ3_length) (y := yJ3_length) (n := 0) (c0 := 7) (q := (RJ4, TJ4, 4)) this [] [] rfl rfl k3 (mJ3_length s0 he2) YOK_J3_length rfl q552 q138 q546 q547 q431 (by decide) q551 (Nat.le_of_ble_eq_true rfl) (Nat.le_of_ble_eq_true rfl) (Nat.le_of_ble_eq_true rfl) dJ4_length_1 (st2 := [iV v1]) rfl) ?_
  clear he2
  refine e1 (fun q0 => ?_)
  subst q0
  exact go_iret (pc := 4) (Y := YJ4_length) rfl dJ4_length_4
abbrev YJ9_checkLength : mY := (RJ9, cJ9_checkLength, 2, (Option.none : Option Jvm.ClassFile.FieldType), 0, 0, false)
theorem YOK_J9_checkLength : YOK yJ9_checkLength 2 := ⟨⟨by decide +kernel, by decide +kernel⟩, by decide +kernel⟩
theorem mJ9_checkLength {G : gG} (s0 : St) {p0 : Int32} {p1 : Int32} (h : sJ9_checkLength s0 p0 p1 = some ()) : Mt G YJ9_checkLength yJ9_checkLength [iV p0, iV p1] s0 none s0 := by
  refine go_start (ls0 := [(0, iV p0), (1, iV p1)]) (by decide +kernel) rfl (fun h => by cases h) (Nat.le_of_ble_eq_true rfl) rfl ?_
  revert h
  unfold sJ9_checkLength
  refine im (go_iload_n (pc := 0) (Y := YJ9_checkLength) 1 dJ9_checkLength_0 rfl rfl) ?_
  refine im (go_iload_n (pc := 1) (Y := YJ9_checkLength) 0 dJ9_checkLength_1 rfl rfl) ?_
  refine flp2 (go_icmp_ge (pc := 2) (Y := YJ9_checkLength) 37 dJ9_checkLength_2 (by decide)) ?_ ?_
  · intro _
    exact go_vret (pc := 37) (Y := YJ9_checkLength) rfl dJ9_checkLength_37
  · exact nog
abbrev YJ9_copyOfRangeByte : mY := (RJ9, cJ9_copyOfRangeByte, 5, (Option.some (.array .byte)), 1, 26, false)
theorem YOK_J9_copyOfRangeByte : YOK yJ9_copyOfRangeByte 3 := ⟨⟨by decide +kernel, by decide +kernel⟩, by decide +kernel⟩
theorem mJ9_copyOfRangeByte {G : gG} (s0 : St) {p0 : Option Nat} {p1 : Int32} {p2 : Int32} {sE : St} {vE : Option Nat} (h : sJ9_copyOfRangeByte s0 p0 p1 p2 = some (sE, vE)) : Mt G YJ9_copyOfRangeByte yJ9_copyOfRangeByte [rV p0, iV p1, iV p2] s0 (some (rV vE)) sE := by
  refine go_start (ls0 := [(0, rV p0), (1, iV p1), (2, iV p2)]) (by decide +kernel) rfl (fun h => by cases h) (Nat.le_of_ble_eq_true rfl) rfl ?_
  revert h
  unfold sJ9_copyOfRangeByte
  refine im (go_iload_n (pc := 0) (Y := YJ9_copyOfRangeByte) 1 dJ9_copyOfRangeByte_0 rfl rfl) ?_
  refine im (go_iload_n (pc := 1) (Y := YJ9_copyOfRangeByte) 2 dJ9_copyOfRangeByte_1 rfl rfl) ?_
  refine bpg (fun u6 he1 => ?_)
  refine im (go_callS (pc := 2) (Y := YJ9_copyOfRangeByte) (Yc := YJ9_checkLength) (y := yJ9_checkLength) (n := 2) [iV p1, iV p2] [] rfl (mJ9_checkLength s0 he1) YOK_J9_checkLength rfl q562 q144 q561 q560 (Nat.le_of_ble_eq_true rfl) (Nat.le_of_ble_eq_true rfl) (Nat.le_of_ble_eq_true rfl) dJ9_copyOfRangeByte_2 (st2 := []) rfl) ?_
  clear he1
  refine im (go_iload_n (pc := 5) (Y := YJ9_copyOfRangeByte) 2 dJ9_copyOfRangeByte_5 rfl rfl) ?_
  refine im (go_iload_n (pc := 6) (Y := YJ9_copyOfRangeByte) 1 dJ9_copyOfRangeByte_6 rfl rfl) ?_
  refine im (go_isub (pc := 7) (Y := YJ9_copyOfRangeByte) dJ9_copyOfRangeByte_7) ?_
  refine im (go_istore_n (pc := 8) (Y := YJ9_copyOfRangeByte) (ls2 := [(3, iV (p2 - p1)), (0, rV p0), (1, iV p1), (2, iV p2)]) dJ9_copyOfRangeByte_8 rfl (Nat.le_of_ble_eq_true rfl) rfl) ?_
  refine im (go_iload_n (pc := 9) (Y := YJ9_copyOfRangeByte) 0 dJ9_copyOfRangeByte_9 rfl rfl) ?_
  refine flp (go_nwA2 (pc := 10) (Y := YJ9_copyOfRangeByte) dJ9_copyOfRangeByte_10) (fun s2 a3 => ?_)
  refine im (go_astore (pc := 12) (Y := YJ9_copyOfRangeByte) (ls2 := [(4, rV (some a3)), (3, iV (p2 - p1)), (0, rV p0), (1, iV p1), (2, iV p2)]) dJ9_copyOfRangeByte_12 (Nat.le_of_ble_eq_true rfl) rfl) ?_
  refine im (go_aload_n (pc := 14) (Y := YJ9_copyOfRangeByte) 2 dJ9_copyOfRangeByte_14 rfl rfl) ?_
  refine im (go_iload_n (pc := 15) (Y := YJ9_copyOfRangeByte) 3 dJ9_copyOfRangeByte_15 rfl rfl) ?_
  refine im (go_aload (pc := 16) (Y := YJ9_copyOfRangeByte) 0 dJ9_copyOfRangeByte_16 rfl) ?_
  refine im (go_iconst (pc := 18) (Y := YJ9_copyOfRangeByte) (v := 0) dJ9_copyOfRangeByte_18 rfl) ?_
  refine im (go_aload_n (pc := 19) (Y := YJ9_copyOfRangeByte) 2 dJ9_copyOfRangeByte_19 rfl rfl) ?_
  refine flp (go_aN (pc := 20) (Y := YJ9_copyOfRangeByte) dJ9_copyOfRangeByte_20) (fun v4 => ?_)
  refine im (go_iload_n (pc := 21) (Y := YJ9_copyOfRangeByte) 3 dJ9_copyOfRangeByte_21 rfl rfl) ?_
  refine im (go_isub (pc := 22) (Y := YJ9_copyOfRangeByte) dJ9_copyOfRangeByte_22) ?_
  refine im (go_iload_n (pc := 23) (Y := YJ9_copyOfRangeByte) 1 dJ9_copyOfRangeByte_23 rfl rfl) ?_
  refine im (go_min (pc := 24) (Y := YJ9_copyOfRangeByte) q468 q469 q143 q470 (Nat.le_of_ble_eq_true rfl) (Nat.le_of_ble_eq_true rfl) dJ9_copyOfRangeByte_24) ?_
  refine flp (go_cpI (pc := 27) (Y := YJ9_copyOfRangeByte) (k0 := 1) rfl (by decide) q471 q473 q472 q145 (Nat.le_of_ble_eq_true rfl) (Nat.le_of_ble_eq_true rfl) dJ9_copyOfRangeByte_27) (fun s5 => ?_)
  refine im (go_aload (pc := 30) (Y := YJ9_copyOfRangeByte) 0 dJ9_copyOfRangeByte_30 rfl) ?_
  refine e2 (fun q0 q1 => ?_)
  subst q0
  subst q1
  exact go_aret (pc := 32) (Y := YJ9_copyOfRangeByte) rfl (Or.inr ⟨_, rfl⟩) dJ9_copyOfRangeByte_32
abbrev YJ9_copyOfRange : mY := (RJ9, cJ9_copyOfRange, 3, (Option.some (.array .byte)), 2, 50, false)
theorem YOK_J9_copyOfRange : YOK yJ9_copyOfRange 3 := ⟨⟨by decide +kernel, by decide +kernel⟩, by decide +kernel⟩
theorem mJ9_copyOfRange {G : gG} (s0 : St) {p0 : Option Nat} {p1 : Int32} {p2 : Int32} {sE : St} {vE : Option Nat} (h : sJ9_copyOfRange s0 p0 p1 p2 = some (sE, vE)) : Mt G YJ9_copyOfRange yJ9_copyOfRange [rV p0, iV p1, iV p2] s0 (some (rV vE)) sE := by
  refine go_start (ls0 := [(0, rV p0), (1, iV p1), (2, iV p2)]) (by decide +kernel) rfl (fun h => by cases h) (Nat.le_of_ble_eq_true rfl) rfl ?_
  revert h
  unfold sJ9_copyOfRange
  refine im (go_iload_n (pc := 0) (Y := YJ9_copyOfRange) 1 dJ9_copyOfRange_0 rfl rfl) ?_
  refine bpg (fun u5 he6 h7 => ?_)
  have hj10 : Go G YJ9_copyOfRange s0 sE (some (rV vE)) 10 [(0, rV p0), (1, iV p1), (2, iV p2)] [] s0 := by
    clear he6
    revert h7
    refine im (go_aload_n (pc := 10) (Y := YJ9_copyOfRange) 0 dJ9_copyOfRange_10 rfl rfl) ?_
    refine im (go_iload_n (pc := 11) (Y := YJ9_copyOfRange) 1 dJ9_copyOfRange_11 rfl rfl) ?_
    refine im (go_iload_n (pc := 12) (Y := YJ9_copyOfRange) 2 dJ9_copyOfRange_12 rfl rfl) ?_
    refine bdg (fun s1 v2 he3 => ?_)
    refine im (go_callS (pc := 13) (Y := YJ9_copyOfRange) (Yc := YJ9_copyOfRangeByte) (y := yJ9_copyOfRangeByte) (n := 3) [rV p0, iV p1, iV p2] [] rfl (mJ9_copyOfRangeByte s0 he3) YOK_J9_copyOfRangeByte rfl q559 q144 q558 q557 (Nat.le_of_ble_eq_true rfl) (Nat.le_of_ble_eq_true rfl) (Nat.le_of_ble_eq_true rfl) dJ9_copyOfRange_13 (st2 := [rV v2]) rfl) ?_
    clear he3
    refine e2 (fun q0 q1 => ?_)
    subst q0
    subst q1
    exact go_aret (pc := 16) (Y := YJ9_copyOfRange) rfl (Or.inr ⟨_, rfl⟩) dJ9_copyOfRange_16
  clear h7
  revert he6
  refine flp2 (go_if_ne (pc := 1) (Y := YJ9_copyOfRange) 10 dJ9_copyOfRange_1 (by decide)) ?_ ?_
  · refine im (go_iload_n (pc := 4) (Y := YJ9_copyOfRange) 2 dJ9_copyOfRange_4 rfl rfl) ?_
    refine im (go_aload_n (pc := 5) (Y := YJ9_copyOfRange) 0 dJ9_copyOfRange_5 rfl rfl) ?_
    refine flp (go_aN (pc := 6) (Y := YJ9_copyOfRange) dJ9_copyOfRange_6) (fun v4 => ?_)
    refine flp2 (go_icmp_eq (pc := 7) (Y := YJ9_copyOfRange) 17 dJ9_copyOfRange_7 (by decide)) ?_ ?_
    · exact nog
    · intro _
      exact go_sub [0, 1, 2] rfl hj10
  · intro _
    exact go_sub [0, 1, 2] rfl hj10
abbrev YJ5_init_2 : mY := (RJ5, cJ5_init_2, 5, (Option.none : Option Jvm.ClassFile.FieldType), 3, 72, true)
theorem YOK_J5_init_2 : YOK yJ5_init_2 2 := ⟨⟨by decide +kernel, by decide +kernel⟩, by decide +kernel⟩
theorem mJ5_init_2 {G : gG} (s0 : St) {this : Nat} {p0 : Option Nat} {p1 : Option Nat} {sE : St} (h : sJ5_init_2 s0 this p0 p1 = some sE) : Mt G YJ5_init_2 yJ5_init_2 [rV (some this), rV p0, rV p1] s0 none sE := by
  refine go_start (ls0 := [(0, rV (some this)), (1, rV p0), (2, rV p1)]) (by decide +kernel) rfl (fun _ => rfl) (Nat.le_of_ble_eq_true rfl) rfl ?_
  revert h
  unfold sJ5_init_2
  refine im (go_aload_n (pc := 0) (Y := YJ5_init_2) 0 dJ5_init_2_0 rfl rfl) ?_
  refine im (go_objI (pc := 1) (Y := YJ5_init_2) q539 (Nat.le_of_ble_eq_true rfl) (Nat.le_of_ble_eq_true rfl) q167 q168 dJ5_init_2_1) ?_
  refine im (go_aload_n (pc := 4) (Y := YJ5_init_2) 1 dJ5_init_2_4 rfl rfl) ?_
  refine ivg (fun w1 r2 k3 => ?_)
  refine bpg (fun v4 he5 => ?_)
  refine im (go_callU (pc := 5) (Y := YJ5_init_2) (Yc := YJ3_getValue) (y := yJ3_getValue) (n := 0) (c0 := 7) (q := (RJ4, TJ4, 4)) (x := ⟨"java/lang/AbstractStringBuilde\x72", "getValue", "()[B"⟩) (owner := "java/lang/AbstractStringBuilde\x72") w1 [] [] (by rw [r2]; rfl) rfl k3 (mJ3_getValue s0 he5) ⟨⟨by decide +kernel, by decide +kernel⟩, by decide +kernel⟩ rfl q544 q138 q541 q542 (by decide) q541 q544 q543 q540 (Nat.le_of_ble_eq_true rfl) (Nat.le_of_ble_eq_true rfl) (Nat.le_of_ble_eq_true rfl) dJ5_init_2_5 (st2 := [rV v4]) rfl) ?_
  clear he5
  refine im (go_astore_n (pc := 8) (Y := YJ5_init_2) (ls2 := [(3, rV v4), (0, rV (some this)), (1, rV p0), (2, rV p1)]) dJ5_init_2_8 rfl (Nat.le_of_ble_eq_true rfl) rfl) ?_
  refine im (go_aload_n (pc := 9) (Y := YJ5_init_2) 2 dJ5_init_2_9 rfl rfl) ?_
  refine ivg (fun w6 r7 k8 => ?_)
  refine bpg (fun v9 he10 => ?_)
  refine im (go_callU (pc := 10) (Y := YJ5_init_2) (Yc := YJ4_length) (y := yJ4_length) (n := 0) (c0 := 7) (q := (RJ4, TJ4, 4)) (x := ⟨"java/lang/AbstractStringBuilde\x72", "length", "()I"⟩) (owner := "java/lang/AbstractStringBuilde\x72") w6 [] [] (by rw [r7]; rfl) rfl k8 (mJ4_length s0 he10) ⟨⟨by decide +kernel, by decide +kernel⟩, by decide +kernel⟩ rfl q550 q139 q549 q547 (by decide) q546 q552 q548 q545 (Nat.le_of_ble_eq_true rfl) (Nat.le_of_ble_eq_true rfl) (Nat.le_of_ble_eq_true rfl) dJ5_init_2_10 (st2 := [iV v9]) rfl) ?_
  clear he10
  refine im (go_istore (pc := 13) (Y := YJ5_init_2) (ls2 := [(4, iV v9), (3, rV v4), (0, rV (some this)), (1, rV p0), (2, rV p1)]) dJ5_init_2_13 (Nat.le_of_ble_eq_true rfl) rfl) ?_
  refine im (go_aload_n (pc := 15) (Y := YJ5_init_2) 3 dJ5_init_2_15 rfl rfl) ?_
  refine ivg (fun w11 r12 k13 => ?_)
  refine bpg (fun v14 he15 => ?_)
  refine im (go_callU (pc := 16) (Y := YJ5_init_2) (Yc := YJ3_isLatin1) (y := yJ3_isLatin1) (n := 0) (c0 := 7) (q := (RJ4, TJ4, 4)) (x := ⟨"java/lang/AbstractStringBuilde\x72", "isLatin1", "()Z"⟩) (owner := "java/lang/AbstractStringBuilde\x72") w11 [] [] (by rw [r12]; rfl) rfl k13 (mJ3_isLatin1 s0 he15) ⟨⟨by decide +kernel, by decide +kernel⟩, by decide +kernel⟩ rfl q478 q138 q475 q476 (by decide) q475 q478 q477 q553 (Nat.le_of_ble_eq_true rfl) (Nat.le_of_ble_eq_true rfl) (Nat.le_of_ble_eq_true rfl) dJ5_init_2_16 (st2 := [iV v14]) rfl) ?_
  clear he15
  refine flp2 (go_if_eq (pc := 19) (Y := YJ5_init_2) 41 dJ5_init_2_19 (by decide)) ?_ ?_
  · refine im (go_gsI (pc := 41) (Y := YJ5_init_2) (v := 1) (O := "java/lang/String") (f := "COMPACT_STRINGS") (d := "Z") (by decide +kernel) q563 rfl dJ5_init_2_41) ?_
    refine bpg (fun u22 he23 h24 => ?_)
    have hj79 : Go G YJ5_init_2 s0 sE none 79 [(0, rV (some this)), (3, rV v4), (4, iV v9)] [] s0 := by
      clear he23
      revert h24
      refine im (go_aload_n (pc := 79) (Y := YJ5_init_2) 0 dJ5_init_2_79 rfl rfl) ?_
      refine im (go_iconst (pc := 80) (Y := YJ5_init_2) (v := 1) dJ5_init_2_80 rfl) ?_
      refine flp (go_pI (pc := 81) (Y := YJ5_init_2) fF60 (by decide) q578 (Or.inl rfl) (Or.inr ⟨rfl, rfl⟩) rfl rfl rfl dJ5_init_2_81) (fun s16 => ?_)
      refine im (go_aload_n (pc := 84) (Y := YJ5_init_2) 0 dJ5_init_2_84 rfl rfl) ?_
      refine im (go_aload_n (pc := 85) (Y := YJ5_init_2) 1 dJ5_init_2_85 rfl rfl) ?_
      refine im (go_iconst (pc := 86) (Y := YJ5_init_2) (v := 0) dJ5_init_2_86 rfl) ?_
      refine im (go_iload (pc := 87) (Y := YJ5_init_2) 2 dJ5_init_2_87 rfl) ?_
      refine im (go_iconst (pc := 89) (Y := YJ5_init_2) (v := 1) dJ5_init_2_89 rfl) ?_
      refine im (go_ishl (pc := 90) (Y := YJ5_init_2) dJ5_init_2_90) ?_
      refine bdg (fun s17 v18 he19 => ?_)
      refine im (go_callS (pc := 91) (Y := YJ5_init_2) (Yc := YJ9_copyOfRange) (y := yJ9_copyOfRange) (n := 3) [rV v4, iV 0, iV (v9 <<< (1 &&& 31))] [rV (some this)] rfl (mJ9_copyOfRange s16 he19) YOK_J9_copyOfRange rfl q556 q144 q555 q554 (Nat.le_of_ble_eq_true rfl) (Nat.le_of_ble_eq_true rfl) (Nat.le_of_ble_eq_true rfl) dJ5_init_2_91 (st2 := [rV v18, rV (some this)]) rfl) ?_
      clear he19
      refine flp (go_pR (pc := 94) (Y := YJ5_init_2) fF1031 (by decide) q577 (Or.inl rfl) (Or.inr ⟨rfl, rfl⟩) rfl (Or.inr ⟨_, rfl⟩) dJ5_init_2_94) (fun s20 => ?_)
      refine e1 (fun q0 => ?_)
      subst q0
      exact go_vret (pc := 97) (Y := YJ5_init_2) rfl dJ5_init_2_97
    clear h24
    revert he23
    refine flp2 (go_if_eq (pc := 44) (Y := YJ5_init_2) 79 dJ5_init_2_44 (by decide)) ?_ ?_
    · intro _
      exact go_sub [2, 1, 0] rfl hj79
    · refine im (go_aload_n (pc := 47) (Y := YJ5_init_2) 3 dJ5_init_2_47 rfl rfl) ?_
      refine flp (go_gI (pc := 48) (Y := YJ5_init_2) fF58 (by decide) q421 (Or.inl rfl) dJ5_init_2_48) (fun v21 => ?_)
      refine flp2 (go_if_eq (pc := 51) (Y := YJ5_init_2) 79 dJ5_init_2_51 (by decide)) ?_ ?_
      · intro _
        exact go_sub [2, 1, 0] rfl hj79
      · exact nog
  · refine im (go_aload_n (pc := 22) (Y := YJ5_init_2) 2 dJ5_init_2_22 rfl rfl) ?_
    refine im (go_iconst (pc := 23) (Y := YJ5_init_2) (v := 0) dJ5_init_2_23 rfl) ?_
    refine flp (go_pI (pc := 24) (Y := YJ5_init_2) fF60 (by decide) q578 (Or.inl rfl) (Or.inr ⟨rfl, rfl⟩) rfl rfl rfl dJ5_init_2_24) (fun s25 => ?_)
    refine im (go_aload_n (pc := 27) (Y := YJ5_init_2) 2 dJ5_init_2_27 rfl rfl) ?_
    refine im (go_aload_n (pc := 28) (Y := YJ5_init_2) 1 dJ5_init_2_28 rfl rfl) ?_
    refine im (go_iconst (pc := 29) (Y := YJ5_init_2) (v := 0) dJ5_init_2_29 rfl) ?_
    refine im (go_iload (pc := 30) (Y := YJ5_init_2) 0 dJ5_init_2_30 rfl) ?_
    refine bdg (fun s26 v27 he28 => ?_)
    refine im (go_callS (pc := 32) (Y := YJ5_init_2) (Yc := YJ9_copyOfRange) (y := yJ9_copyOfRange) (n := 3) [rV v4, iV 0, iV v9] [rV (some this)] rfl (mJ9_copyOfRange s25 he28) YOK_J9_copyOfRange rfl q556 q144 q555 q554 (Nat.le_of_ble_eq_true rfl) (Nat.le_of_ble_eq_true rfl) (Nat.le_of_ble_eq_true rfl) dJ5_init_2_32 (st2 := [rV v27, rV (some this)]) rfl) ?_
    clear he28
    refine flp (go_pR (pc := 35) (Y := YJ5_init_2) fF1031 (by decide) q577 (Or.inl rfl) (Or.inr ⟨rfl, rfl⟩) rfl (Or.inr ⟨_, rfl⟩) dJ5_init_2_35) (fun s29 => ?_)
    refine im (go_goto (pc := 38) (Y := YJ5_init_2) 97 dJ5_init_2_38 (by decide)) ?_
    refine e1 (fun q0 => ?_)
    subst q0
    exact go_vret (pc := 97) (Y := YJ5_init_2) rfl dJ5_init_2_97
abbrev YJ5_init : mY := (RJ5, cJ5_init, 2, (Option.none : Option Jvm.ClassFile.FieldType), 4, 96, true)
theorem YOK_J5_init : YOK yJ5_init 1 := ⟨⟨by decide +kernel, by decide +kernel⟩, by decide +kernel⟩
theorem mJ5_init {G : gG} (s0 : St) {this : Nat} {p0 : Option Nat} {sE : St} (h : sJ5_init s0 this p0 = some sE) : Mt G YJ5_init yJ5_init [rV (some this), rV p0] s0 none sE := by
  refine go_start (ls0 := [(0, rV (some this)), (1, rV p0)]) (by decide +kernel) rfl (fun _ => rfl) (Nat.le_of_ble_eq_true rfl) rfl ?_
  revert h
  unfold sJ5_init
  refine im (go_aload_n (pc := 0) (Y := YJ5_init) 0 dJ5_init_0 rfl rfl) ?_
  refine im (go_aload_n (pc := 1) (Y := YJ5_init) 1 dJ5_init_1 rfl rfl) ?_
  refine im (go_null (pc := 2) (Y := YJ5_init) dJ5_init_2) ?_
  refine bpg (fun s1 he2 => ?_)
  refine im (go_callI (pc := 3) (Y := YJ5_init) (Yc := YJ5_init_2) (y := yJ5_init_2) (n := 2) this [rV p0, rV none] [] rfl (mJ5_init_2 s0 he2) YOK_J5_init_2 rfl rfl q538 rfl q140 q537 q536 (Nat.le_of_ble_eq_true rfl) (Nat.le_of_ble_eq_true rfl) (Nat.le_of_ble_eq_true rfl) dJ5_init_3 (st2 := []) rfl) ?_
  clear he2
  refine e1 (fun q0 => ?_)
  subst q0
  exact go_vret (pc := 6) (Y := YJ5_init) rfl dJ5_init_6
abbrev YJ4_toString : mY := (RJ4, cJ4_toString, 1, (Option.some (.object "java/lang/String")), 5, 117, false)
theorem YOK_J4_toString : YOK yJ4_toString 0 := ⟨⟨by decide +kernel, by decide +kernel⟩, by decide +kernel⟩
theorem mJ4_toString {G : gG} (s0 : St) {this : Nat} {sE : St} {vE : Option Nat} (h : sJ4_toString s0 this = some (sE, vE)) : Mt G YJ4_toString yJ4_toString [rV (some this)] s0 (some (rV vE)) sE := by
  refine go_start (ls0 := [(0, rV (some this))]) (by decide +kernel) rfl (fun h => by cases h) (Nat.le_of_ble_eq_true rfl) rfl ?_
  revert h
  unfold sJ4_toString
  refine flp (go_nwO (pc := 0) (Y := YJ4_toString) (c0 := 8) (q := (RJ5, TJ5, 4)) rfl rfl q531 q532 q140 dJ4_toString_0) (fun s1 a2 => ?_)
  refine im (go_dup (pc := 3) (Y := YJ4_toString) dJ4_toString_3 rfl) ?_
  refine im (go_aload_n (pc := 4) (Y := YJ4_toString) 0 dJ4_toString_4 rfl rfl) ?_
  refine bpg (fun s3 he4 => ?_)
  refine im (go_callI (pc := 5) (Y := YJ4_toString) (Yc := YJ5_init) (y := yJ5_init) (n := 1) a2 [rV (some this)] [rV (some a2)] rfl (mJ5_init s1 he4) YOK_J5_init rfl rfl q535 rfl q140 q534 q533 (Nat.le_of_ble_eq_true rfl) (Nat.le_of_ble_eq_true rfl) (Nat.le_of_ble_eq_true rfl) dJ4_toString_5 (st2 := [rV (some a2)]) rfl) ?_
  clear he4
  refine e2 (fun q0 q1 => ?_)
  subst q0
  subst q1
  exact go_aret (pc := 8) (Y := YJ4_toString) rfl (Or.inl ⟨_, rfl⟩) dJ4_toString_8
abbrev YJ5_isLatin1 : mY := (RJ5, cJ5_isLatin1, 1, (Option.some .boolean), 0, 0, false)
theorem YOK_J5_isLatin1 : YOK yJ5_isLatin1 0 := ⟨⟨by decide +kernel, by decide +kernel⟩, by decide +kernel⟩
theorem mJ5_isLatin1 {G : gG} (s0 : St) {this : Nat} {vE : Int32} (h : sJ5_isLatin1 s0 this = some vE) : Mt G YJ5_isLatin1 yJ5_isLatin1 [rV (some this)] s0 (some (iV vE)) s0 := by
  refine go_start (ls0 := [(0, rV (some this))]) (by decide +kernel) rfl (fun h => by cases h) (Nat.le_of_ble_eq_true rfl) rfl ?_
  revert h
  unfold sJ5_isLatin1
  refine im (go_gsI (pc := 0) (Y := YJ5_isLatin1) (v := 1) (O := "java/lang/String") (f := "COMPACT_STRINGS") (d := "Z") (by decide +kernel) q563 rfl dJ5_isLatin1_0) ?_
  refine flp2 (go_if_eq (pc := 3) (Y := YJ5_isLatin1) 17 dJ5_isLatin1_3 (by decide)) ?_ ?_
  · refine im (go_iconst (pc := 17) (Y := YJ5_isLatin1) (v := 0) dJ5_isLatin1_17 rfl) ?_
    refine e1 (fun q0 => ?_)
    subst q0
    exact go_zret (pc := 18) (Y := YJ5_isLatin1) rfl rfl dJ5_isLatin1_18
  · refine im (go_aload_n (pc := 6) (Y := YJ5_isLatin1) 0 dJ5_isLatin1_6 rfl rfl) ?_
    refine flp (go_gI (pc := 7) (Y := YJ5_isLatin1) fF60 (by decide) q578 (Or.inl rfl) dJ5_isLatin1_7) (fun v1 => ?_)
    refine flp2 (go_if_ne (pc := 10) (Y := YJ5_isLatin1) 17 dJ5_isLatin1_10 (by decide)) ?_ ?_
    · refine im (go_iconst (pc := 13) (Y := YJ5_isLatin1) (v := 1) dJ5_isLatin1_13 rfl) ?_
      refine im (go_goto (pc := 14) (Y := YJ5_isLatin1) 18 dJ5_isLatin1_14 (by decide)) ?_
      refine e1 (fun q0 => ?_)
      subst q0
      exact go_zret (pc := 18) (Y := YJ5_isLatin1) rfl rfl dJ5_isLatin1_18
    · refine im (go_iconst (pc := 17) (Y := YJ5_isLatin1) (v := 0) dJ5_isLatin1_17 rfl) ?_
      refine e1 (fun q0 => ?_)
      subst q0
      exact go_zret (pc := 18) (Y := YJ5_isLatin1) rfl rfl dJ5_isLatin1_18
abbrev YJ7_signedHashCode : mY := (RJ7, cJ7_signedHashCode, 6, (Option.some .int), 0, 0, false)
theorem YOK_J7_signedHashCode : YOK yJ7_signedHashCode 4 := ⟨⟨by decide +kernel, by decide +kernel⟩, by decide +kernel⟩
theorem sJ7_signedHashCode_L8_go {G : gG} {s0 sE : St} {rE : Option V3} (s1 : St) (i1 : Option Nat) (i4 : Int32) : ∀ (n : Nat) (v2 : Int32) (v3 : Int32) (v4 : Int32), sJ7_signedHashCode_L8 s1 i1 i4 n v2 v3 = some v4 → Go G YJ7_signedHashCode s0 sE rE 35 [(0, iV v4)] [] s1 → Go G YJ7_signedHashCode s0 sE rE 8 [(0, iV v2), (1, rV i1), (4, iV i4), (5, iV v3)] [] s1 := by
  intro n
  induction n with
  | zero => intro v2 v3 v4 h hx; rw [sJ7_signedHashCode_L8] at h; cases h
  | succ n ih =>
    intro v2 v3 v4 h hx
    revert h
    rw [sJ7_signedHashCode_L8]
    refine im (go_iload (pc := 8) (Y := YJ7_signedHashCode) 3 dJ7_signedHashCode_8 rfl) ?_
    refine im (go_iload (pc := 10) (Y := YJ7_signedHashCode) 2 dJ7_signedHashCode_10 rfl) ?_
    refine flp2 (go_icmp_ge (pc := 12) (Y := YJ7_signedHashCode) 35 dJ7_signedHashCode_12 (by decide)) ?_ ?_
    · refine e1 (fun q0 => ?_)
      subst q0
      exact go_sub [0] rfl hx
    · refine im (go_bipush (pc := 15) (Y := YJ7_signedHashCode) (v := 31) dJ7_signedHashCode_15 rfl) ?_
      refine im (go_iload_n (pc := 17) (Y := YJ7_signedHashCode) 0 dJ7_signedHashCode_17 rfl rfl) ?_
      refine im (go_imul (pc := 18) (Y := YJ7_signedHashCode) dJ7_signedHashCode_18) ?_
      refine im (go_aload_n (pc := 19) (Y := YJ7_signedHashCode) 1 dJ7_signedHashCode_19 rfl rfl) ?_
      refine im (go_iload (pc := 20) (Y := YJ7_signedHashCode) 3 dJ7_signedHashCode_20 rfl) ?_
      refine flp (go_lI2 (pc := 22) (Y := YJ7_signedHashCode) dJ7_signedHashCode_22) (fun v5 => ?_)
      refine im (go_sipush (pc := 23) (Y := YJ7_signedHashCode) (v := 255) dJ7_signedHashCode_23 rfl) ?_
      refine im (go_iand (pc := 26) (Y := YJ7_signedHashCode) dJ7_signedHashCode_26) ?_
      refine im (go_iadd (pc := 27) (Y := YJ7_signedHashCode) dJ7_signedHashCode_27) ?_
      refine im (go_istore_n (pc := 28) (Y := YJ7_signedHashCode) (ls2 := [(0, iV ((31 * v2) + (v5 &&& 255))), (1, rV i1), (4, iV i4), (5, iV v3)]) dJ7_signedHashCode_28 rfl (Nat.le_of_ble_eq_true rfl) rfl) ?_
      refine im (go_iinc (pc := 29) (Y := YJ7_signedHashCode) 3 (v := (v3 + 1)) (ls2 := [(5, iV (v3 + 1)), (0, iV ((31 * v2) + (v5 &&& 255))), (1, rV i1), (4, iV i4)]) dJ7_signedHashCode_29 rfl rfl (Nat.le_of_ble_eq_true rfl) rfl) ?_
      refine im (go_goto (pc := 32) (Y := YJ7_signedHashCode) 8 dJ7_signedHashCode_32 (by decide)) ?_
      exact fun hq => go_sub [1, 2, 3, 0] rfl (ih _ _ _ hq hx)
theorem mJ7_signedHashCode {G : gG} (s0 : St) {p0 : Int32} {p1 : Option Nat} {p2 : Int32} {p3 : Int32} {vE : Int32} (h : sJ7_signedHashCode s0 p0 p1 p2 p3 = some vE) : Mt G YJ7_signedHashCode yJ7_signedHashCode [iV p0, rV p1, iV p2, iV p3] s0 (some (iV vE)) s0 := by
  refine go_start (ls0 := [(0, iV p0), (1, rV p1), (2, iV p2), (3, iV p3)]) (by decide +kernel) rfl (fun h => by cases h) (Nat.le_of_ble_eq_true rfl) rfl ?_
  revert h
  unfold sJ7_signedHashCode
  refine im (go_iload_n (pc := 0) (Y := YJ7_signedHashCode) 2 dJ7_signedHashCode_0 rfl rfl) ?_
  refine im (go_iload_n (pc := 1) (Y := YJ7_signedHashCode) 3 dJ7_signedHashCode_1 rfl rfl) ?_
  refine im (go_iadd (pc := 2) (Y := YJ7_signedHashCode) dJ7_signedHashCode_2) ?_
  refine im (go_istore (pc := 3) (Y := YJ7_signedHashCode) (ls2 := [(4, iV (p2 + p3)), (0, iV p0), (1, rV p1), (2, iV p2), (3, iV p3)]) dJ7_signedHashCode_3 (Nat.le_of_ble_eq_true rfl) rfl) ?_
  refine im (go_iload_n (pc := 5) (Y := YJ7_signedHashCode) 3 dJ7_signedHashCode_5 rfl rfl) ?_
  refine im (go_istore (pc := 6) (Y := YJ7_signedHashCode) (ls2 := [(5, iV p2), (4, iV (p2 + p3)), (0, iV p0), (1, rV p1), (2, iV p2), (3, iV p3)]) dJ7_signedHashCode_6 (Nat.le_of_ble_eq_true rfl) rfl) ?_
  refine bpg (fun v6 he7 h8 => ?_)
  refine go_sub [2, 3, 1, 0] rfl (sJ7_signedHashCode_L8_go s0 p1 (p2 + p3) FU _ _ _ he7 ?_)
  clear he7
  revert h8
  refine im (go_iload_n (pc := 35) (Y := YJ7_signedHashCode) 0 dJ7_signedHashCode_35 rfl rfl) ?_
  refine e1 (fun q0 => ?_)
  subst q0
  exact go_iret (pc := 36) (Y := YJ7_signedHashCode) rfl dJ7_signedHashCode_36
abbrev YJ7_hashCode_2 : mY := (RJ7, cJ7_hashCode_2, 6, (Option.some .int), 0, 0, false)
theorem YOK_J7_hashCode_2 : YOK yJ7_hashCode_2 4 := ⟨⟨by decide +kernel, by decide +kernel⟩, by decide +kernel⟩
theorem sJ7_hashCode_2_L8_go {G : gG} {s0 sE : St} {rE : Option V3} (s1 : St) (i1 : Option Nat) (i4 : Int32) : ∀ (n : Nat) (v2 : Int32) (v3 : Int32) (v4 : Int32), sJ7_hashCode_2_L8 s1 i1 i4 n v2 v3 = some v4 → Go G YJ7_hashCode_2 s0 sE rE 31 [(0, iV v4)] [] s1 → Go G YJ7_hashCode_2 s0 sE rE 8 [(0, iV v2), (1, rV i1), (4, iV i4), (5, iV v3)] [] s1 := by
  intro n
  induction n with
  | zero => intro v2 v3 v4 h hx; rw [sJ7_hashCode_2_L8] at h; cases h
  | succ n ih =>
    intro v2 v3 v4 h hx
    revert h
    rw [sJ7_hashCode_2_L8]
    refine im (go_iload (pc := 8) (Y := YJ7_hashCode_2) 3 dJ7_hashCode_2_8 rfl) ?_
    refine im (go_iload (pc := 10) (Y := YJ7_hashCode_2) 2 dJ7_hashCode_2_10 rfl) ?_
    refine flp2 (go_icmp_ge (pc := 12) (Y := YJ7_hashCode_2) 31 dJ7_hashCode_2_12 (by decide)) ?_ ?_
    · refine e1 (fun q0 => ?_)
      subst q0
      exact go_sub [0] rfl hx
    · refine im (go_bipush (pc := 15) (Y := YJ7_hashCode_2) (v := 31) dJ7_hashCode_2_15 rfl) ?_
      refine im (go_iload_n (pc := 17) (Y := YJ7_hashCode_2) 0 dJ7_hashCode_2_17 rfl rfl) ?_
      refine im (go_imul (pc := 18) (Y := YJ7_hashCode_2) dJ7_hashCode_2_18) ?_
      refine im (go_aload_n (pc := 19) (Y := YJ7_hashCode_2) 1 dJ7_hashCode_2_19 rfl rfl) ?_
      refine im (go_iload (pc := 20) (Y := YJ7_hashCode_2) 3 dJ7_hashCode_2_20 rfl) ?_
      refine flp (go_lI2 (pc := 22) (Y := YJ7_hashCode_2) dJ7_hashCode_2_22) (fun v5 => ?_)
      refine im (go_iadd (pc := 23) (Y := YJ7_hashCode_2) dJ7_hashCode_2_23) ?_
      refine im (go_istore_n (pc := 24) (Y := YJ7_hashCode_2) (ls2 := [(0, iV ((31 * v2) + v5)), (1, rV i1), (4, iV i4), (5, iV v3)]) dJ7_hashCode_2_24 rfl (Nat.le_of_ble_eq_true rfl) rfl) ?_
      refine im (go_iinc (pc := 25) (Y := YJ7_hashCode_2) 3 (v := (v3 + 1)) (ls2 := [(5, iV (v3 + 1)), (0, iV ((31 * v2) + v5)), (1, rV i1), (4, iV i4)]) dJ7_hashCode_2_25 rfl rfl (Nat.le_of_ble_eq_true rfl) rfl) ?_
      refine im (go_goto (pc := 28) (Y := YJ7_hashCode_2) 8 dJ7_hashCode_2_28 (by decide)) ?_
      exact fun hq => go_sub [1, 2, 3, 0] rfl (ih _ _ _ hq hx)
theorem mJ7_hashCode_2 {G : gG} (s0 : St) {p0 : Int32} {p1 : Option Nat} {p2 : Int32} {p3 : Int32} {vE : Int32} (h : sJ7_hashCode_2 s0 p0 p1 p2 p3 = some vE) : Mt G YJ7_hashCode_2 yJ7_hashCode_2 [iV p0, rV p1, iV p2, iV p3] s0 (some (iV vE)) s0 := by
  refine go_start (ls0 := [(0, iV p0), (1, rV p1), (2, iV p2), (3, iV p3)]) (by decide +kernel) rfl (fun h => by cases h) (Nat.le_of_ble_eq_true rfl) rfl ?_
  revert h
  unfold sJ7_hashCode_2
  refine im (go_iload_n (pc := 0) (Y := YJ7_hashCode_2) 2 dJ7_hashCode_2_0 rfl rfl) ?_
  refine im (go_iload_n (pc := 1) (Y := YJ7_hashCode_2) 3 dJ7_hashCode_2_1 rfl rfl) ?_
  refine im (go_iadd (pc := 2) (Y := YJ7_hashCode_2) dJ7_hashCode_2_2) ?_
  refine im (go_istore (pc := 3) (Y := YJ7_hashCode_2) (ls2 := [(4, iV (p2 + p3)), (0, iV p0), (1, rV p1), (2, iV p2), (3, iV p3)]) dJ7_hashCode_2_3 (Nat.le_of_ble_eq_true rfl) rfl) ?_
  refine im (go_iload_n (pc := 5) (Y := YJ7_hashCode_2) 3 dJ7_hashCode_2_5 rfl rfl) ?_
  refine im (go_istore (pc := 6) (Y := YJ7_hashCode_2) (ls2 := [(5, iV p2), (4, iV (p2 + p3)), (0, iV p0), (1, rV p1), (2, iV p2), (3, iV p3)]) dJ7_hashCode_2_6 (Nat.le_of_ble_eq_true rfl) rfl) ?_
  refine bpg (fun v6 he7 h8 => ?_)
  refine go_sub [2, 3, 1, 0] rfl (sJ7_hashCode_2_L8_go s0 p1 (p2 + p3) FU _ _ _ he7 ?_)
  clear he7
  revert h8
  refine im (go_iload_n (pc := 31) (Y := YJ7_hashCode_2) 0 dJ7_hashCode_2_31 rfl rfl) ?_
  refine e1 (fun q0 => ?_)
  subst q0
  exact go_iret (pc := 32) (Y := YJ7_hashCode_2) rfl dJ7_hashCode_2_32
abbrev YJ7_vectorizedHashCode : mY := (RJ7, cJ7_vectorizedHashCode, 5, (Option.some .int), 1, 25, false)
theorem YOK_J7_vectorizedHashCode : YOK yJ7_vectorizedHashCode 5 := ⟨⟨by decide +kernel, by decide +kernel⟩, by decide +kernel⟩
theorem mJ7_vectorizedHashCode {G : gG} (s0 : St) {p0 : Option Nat} {p1 : Int32} {p2 : Int32} {p3 : Int32} {p4 : Int32} {vE : Int32} (h : sJ7_vectorizedHashCode s0 p0 p1 p2 p3 p4 = some vE) : Mt G YJ7_vectorizedHashCode yJ7_vectorizedHashCode [rV p0, iV p1, iV p2, iV p3, iV p4] s0 (some (iV vE)) s0 := by
  refine go_start (ls0 := [(0, rV p0), (1, iV p1), (2, iV p2), (3, iV p3), (4, iV p4)]) (by decide +kernel) rfl (fun h => by cases h) (Nat.le_of_ble_eq_true rfl) rfl ?_
  revert h
  unfold sJ7_vectorizedHashCode
  refine im (go_iload (pc := 0) (Y := YJ7_vectorizedHashCode) 4 dJ7_vectorizedHashCode_0 rfl) ?_
  refine ifg (fun c4 => ?_) (fun n5 => ?_)
  · refine im (go_tIn (pc := 2) (Y := YJ7_vectorizedHashCode) 44 dJ7_vectorizedHashCode_2 (by rw [c4]; decide) (by rw [c4]; decide) (off := 42) (by rw [c4]; rfl) (by decide)) ?_
    clear c4
    refine im (go_iload_n (pc := 44) (Y := YJ7_vectorizedHashCode) 3 dJ7_vectorizedHashCode_44 rfl rfl) ?_
    refine im (go_aload_n (pc := 45) (Y := YJ7_vectorizedHashCode) 0 dJ7_vectorizedHashCode_45 rfl rfl) ?_
    refine flp (go_castB (pc := 46) (Y := YJ7_vectorizedHashCode) q631 dJ7_vectorizedHashCode_46) (fun h1 => ?_)
    revert h1
    refine im (go_iload_n (pc := 49) (Y := YJ7_vectorizedHashCode) 1 dJ7_vectorizedHashCode_49 rfl rfl) ?_
    refine im (go_iload_n (pc := 50) (Y := YJ7_vectorizedHashCode) 2 dJ7_vectorizedHashCode_50 rfl rfl) ?_
    refine bpg (fun v2 he3 => ?_)
    refine im (go_callS (pc := 51) (Y := YJ7_vectorizedHashCode) (Yc := YJ7_signedHashCode) (y := yJ7_signedHashCode) (n := 4) [iV p3, rV p0, iV p1, iV p2] [] rfl (mJ7_signedHashCode s0 he3) YOK_J7_signedHashCode rfl q634 q142 q633 q632 (Nat.le_of_ble_eq_true rfl) (Nat.le_of_ble_eq_true rfl) (Nat.le_of_ble_eq_true rfl) dJ7_vectorizedHashCode_51 (st2 := [iV v2]) rfl) ?_
    clear he3
    refine im (go_goto (pc := 54) (Y := YJ7_vectorizedHashCode) 157 dJ7_vectorizedHashCode_54 (by decide)) ?_
    refine e1 (fun q0 => ?_)
    subst q0
    exact go_iret (pc := 157) (Y := YJ7_vectorizedHashCode) rfl dJ7_vectorizedHashCode_157
  refine ifg (fun c6 => ?_) (fun n7 => ?_)
  · refine im (go_tIn 57 dJ7_vectorizedHashCode_2 (by rw [c6]; decide) (by rw [c6]; decide) (off := 55) (by rw [c6]; rfl) (by decide)) ?_
    clear c6
    exact nog
  refine ifg (fun c8 => ?_) (fun n9 => ?_)
  · refine im (go_tIn 129 dJ7_vectorizedHashCode_2 (by rw [c8]; decide) (by rw [c8]; decide) (off := 127) (by rw [c8]; rfl) (by decide)) ?_
    clear c8
    exact nog
  refine ifg (fun c10 => ?_) (fun n11 => ?_)
  · refine im (go_tIn 129 dJ7_vectorizedHashCode_2 (by rw [c10]; decide) (by rw [c10]; decide) (off := 127) (by rw [c10]; rfl) (by decide)) ?_
    clear c10
    exact nog
  refine ifg (fun c15 => ?_) (fun n16 => ?_)
  · refine im (go_tIn 90 dJ7_vectorizedHashCode_2 (by rw [c15]; decide) (by rw [c15]; decide) (off := 88) (by rw [c15]; rfl) (by decide)) ?_
    clear c15
    refine im (go_iload_n (pc := 90) (Y := YJ7_vectorizedHashCode) 3 dJ7_vectorizedHashCode_90 rfl rfl) ?_
    refine im (go_aload_n (pc := 91) (Y := YJ7_vectorizedHashCode) 0 dJ7_vectorizedHashCode_91 rfl rfl) ?_
    refine flp (go_castB (pc := 92) (Y := YJ7_vectorizedHashCode) q631 dJ7_vectorizedHashCode_92) (fun h12 => ?_)
    revert h12
    refine im (go_iload_n (pc := 95) (Y := YJ7_vectorizedHashCode) 1 dJ7_vectorizedHashCode_95 rfl rfl) ?_
    refine im (go_iload_n (pc := 96) (Y := YJ7_vectorizedHashCode) 2 dJ7_vectorizedHashCode_96 rfl rfl) ?_
    refine bpg (fun v13 he14 => ?_)
    refine im (go_callS (pc := 97) (Y := YJ7_vectorizedHashCode) (Yc := YJ7_hashCode_2) (y := yJ7_hashCode_2) (n := 4) [iV p3, rV p0, iV p1, iV p2] [] rfl (mJ7_hashCode_2 s0 he14) YOK_J7_hashCode_2 rfl q657 q142 q656 q655 (Nat.le_of_ble_eq_true rfl) (Nat.le_of_ble_eq_true rfl) (Nat.le_of_ble_eq_true rfl) dJ7_vectorizedHashCode_97 (st2 := [iV v13]) rfl) ?_
    clear he14
    refine im (go_goto (pc := 100) (Y := YJ7_vectorizedHashCode) 157 dJ7_vectorizedHashCode_100 (by decide)) ?_
    refine e1 (fun q0 => ?_)
    subst q0
    exact go_iret (pc := 157) (Y := YJ7_vectorizedHashCode) rfl dJ7_vectorizedHashCode_157
  refine ifg (fun c17 => ?_) (fun n18 => ?_)
  · refine im (go_tIn 103 dJ7_vectorizedHashCode_2 (by rw [c17]; decide) (by rw [c17]; decide) (off := 101) (by rw [c17]; rfl) (by decide)) ?_
    clear c17
    exact nog
  refine ifg (fun c19 => ?_) (fun n20 => ?_)
  · refine im (go_tIn 116 dJ7_vectorizedHashCode_2 (by rw [c19]; decide) (by rw [c19]; decide) (off := 114) (by rw [c19]; rfl) (by decide)) ?_
    clear c19
    exact nog
  have ht : ∀ i : Nat, i < 7 → ¬ p4 = Int32.ofInt (4 + i) := by
    intro i hi
    rcases (show i = 0 ∨ i = 1 ∨ i = 2 ∨ i = 3 ∨ i = 4 ∨ i = 5 ∨ i = 6 by omega) with rfl | rfl | rfl | rfl | rfl | rfl | rfl
    · exact n5
    · exact n7
    · exact n9
    · exact n11
    · exact n16
    · exact n18
    · exact n20
  refine im (go_tOut 129 7 dJ7_vectorizedHashCode_2 (by decide) ht (by decide)) ?_
  clear ht
  exact nog
abbrev YJ10_hashCode : mY := (RJ10, cJ10_hashCode, 1, (Option.some .int), 2, 49, false)
theorem YOK_J10_hashCode : YOK yJ10_hashCode 1 := ⟨⟨by decide +kernel, by decide +kernel⟩, by decide +kernel⟩
theorem mJ10_hashCode {G : gG} (s0 : St) {p0 : Option Nat} {vE : Int32} (h : sJ10_hashCode s0 p0 = some vE) : Mt G YJ10_hashCode yJ10_hashCode [rV p0] s0 (some (iV vE)) s0 := by
  refine go_start (ls0 := [(0, rV p0)]) (by decide +kernel) rfl (fun h => by cases h) (Nat.le_of_ble_eq_true rfl) rfl ?_
  revert h
  unfold sJ10_hashCode
  refine im (go_aload_n (pc := 0) (Y := YJ10_hashCode) 0 dJ10_hashCode_0 rfl rfl) ?_
  refine flp (go_aN (pc := 1) (Y := YJ10_hashCode) dJ10_hashCode_1) (fun v1 => ?_)
  refine ifg (fun c2 => ?_) (fun n3 => ?_)
  · refine im (go_lsw (pc := 2) (Y := YJ10_hashCode) 28 (off := 26) dJ10_hashCode_2 (by decide +kernel) (by rw [c2]; decide +kernel) (by decide)) ?_
    clear c2
    refine im (go_iconst (pc := 28) (Y := YJ10_hashCode) (v := 0) dJ10_hashCode_28 rfl) ?_
    refine im (go_goto (pc := 29) (Y := YJ10_hashCode) 51 dJ10_hashCode_29 (by decide)) ?_
    refine e1 (fun q0 => ?_)
    subst q0
    exact go_iret (pc := 51) (Y := YJ10_hashCode) rfl dJ10_hashCode_51
  refine ifg (fun c5 => ?_) (fun n6 => ?_)
  · refine im (go_lsw 32 (off := 30) dJ10_hashCode_2 (by decide +kernel) (by rw [c5]; decide +kernel) (by decide)) ?_
    clear c5
    refine im (go_aload_n (pc := 32) (Y := YJ10_hashCode) 0 dJ10_hashCode_32 rfl rfl) ?_
    refine im (go_iconst (pc := 33) (Y := YJ10_hashCode) (v := 0) dJ10_hashCode_33 rfl) ?_
    refine flp (go_lI2 (pc := 34) (Y := YJ10_hashCode) dJ10_hashCode_34) (fun v4 => ?_)
    refine im (go_sipush (pc := 35) (Y := YJ10_hashCode) (v := 255) dJ10_hashCode_35 rfl) ?_
    refine im (go_iand (pc := 38) (Y := YJ10_hashCode) dJ10_hashCode_38) ?_
    refine im (go_goto (pc := 39) (Y := YJ10_hashCode) 51 dJ10_hashCode_39 (by decide)) ?_
    refine e1 (fun q0 => ?_)
    subst q0
    exact go_iret (pc := 51) (Y := YJ10_hashCode) rfl dJ10_hashCode_51
  refine im (go_lsw 42 (off := 40) dJ10_hashCode_2 (by decide +kernel) (lsw_o (List.forall_mem_cons.mpr ⟨n3, List.forall_mem_cons.mpr ⟨n6, fun _ h => by cases h⟩⟩)) (by decide)) ?_
  refine im (go_aload_n (pc := 42) (Y := YJ10_hashCode) 0 dJ10_hashCode_42 rfl rfl) ?_
  refine im (go_iconst (pc := 43) (Y := YJ10_hashCode) (v := 0) dJ10_hashCode_43 rfl) ?_
  refine im (go_aload_n (pc := 44) (Y := YJ10_hashCode) 0 dJ10_hashCode_44 rfl rfl) ?_
  refine flp (go_aN (pc := 45) (Y := YJ10_hashCode) dJ10_hashCode_45) (fun v7 => ?_)
  refine im (go_iconst (pc := 46) (Y := YJ10_hashCode) (v := 0) dJ10_hashCode_46 rfl) ?_
  refine im (go_iconst (pc := 47) (Y := YJ10_hashCode) (v := 4) dJ10_hashCode_47 rfl) ?_
  refine bpg (fun v8 he9 => ?_)
  refine im (go_callS (pc := 48) (Y := YJ10_hashCode) (Yc := YJ7_vectorizedHashCode) (y := yJ7_vectorizedHashCode) (n := 5) [rV p0, iV 0, iV v7, iV 0, iV 4] [] rfl (mJ7_vectorizedHashCode s0 he9) YOK_J7_vectorizedHashCode rfl q630 q142 q629 q628 (Nat.le_of_ble_eq_true rfl) (Nat.le_of_ble_eq_true rfl) (Nat.le_of_ble_eq_true rfl) dJ10_hashCode_48 (st2 := [iV v8]) rfl) ?_
  clear he9
  refine e1 (fun q0 => ?_)
  subst q0
  exact go_iret (pc := 51) (Y := YJ10_hashCode) rfl dJ10_hashCode_51
abbrev YJ5_hashCode : mY := (RJ5, cJ5_hashCode, 2, (Option.some .int), 3, 69, false)
theorem YOK_J5_hashCode : YOK yJ5_hashCode 0 := ⟨⟨by decide +kernel, by decide +kernel⟩, by decide +kernel⟩
theorem mJ5_hashCode {G : gG} (s0 : St) {this : Nat} {sE : St} {vE : Int32} (h : sJ5_hashCode s0 this = some (sE, vE)) : Mt G YJ5_hashCode yJ5_hashCode [rV (some this)] s0 (some (iV vE)) sE := by
  refine go_start (ls0 := [(0, rV (some this))]) (by decide +kernel) rfl (fun h => by cases h) (Nat.le_of_ble_eq_true rfl) rfl ?_
  revert h
  unfold sJ5_hashCode
  refine im (go_aload_n (pc := 0) (Y := YJ5_hashCode) 0 dJ5_hashCode_0 rfl rfl) ?_
  refine flp (go_gI (pc := 1) (Y := YJ5_hashCode) fF61 (by decide) q579 (Or.inl rfl) dJ5_hashCode_1) (fun v1 => ?_)
  refine im (go_istore_n (pc := 4) (Y := YJ5_hashCode) (ls2 := [(1, iV v1), (0, rV (some this))]) dJ5_hashCode_4 rfl (Nat.le_of_ble_eq_true rfl) rfl) ?_
  refine im (go_iload_n (pc := 5) (Y := YJ5_hashCode) 0 dJ5_hashCode_5 rfl rfl) ?_
  refine flp2 (go_if_ne (pc := 6) (Y := YJ5_hashCode) 58 dJ5_hashCode_6 (by decide)) ?_ ?_
  · refine im (go_aload_n (pc := 9) (Y := YJ5_hashCode) 1 dJ5_hashCode_9 rfl rfl) ?_
    refine flp (go_gI (pc := 10) (Y := YJ5_hashCode) fF62 (by decide) q580 (Or.inl rfl) dJ5_hashCode_10) (fun v2 => ?_)
    refine flp2 (go_if_ne (pc := 13) (Y := YJ5_hashCode) 58 dJ5_hashCode_13 (by decide)) ?_ ?_
    · refine im (go_aload_n (pc := 16) (Y := YJ5_hashCode) 1 dJ5_hashCode_16 rfl rfl) ?_
      refine kdg (fun k3 => ?_)
      refine bpg (fun v4 he5 => ?_)
      refine im (go_callV (pc := 17) (Y := YJ5_hashCode) (Yc := YJ5_isLatin1) (y := yJ5_isLatin1) (n := 0) (c0 := 8) (q := (RJ5, TJ5, 4)) this [] [] rfl rfl k3 (mJ5_isLatin1 s0 he5) YOK_J5_isLatin1 rfl q624 q140 q622 q623 q621 (Nat.le_of_ble_eq_true rfl) (Nat.le_of_ble_eq_true rfl) (Nat.le_of_ble_eq_true rfl) dJ5_hashCode_17 (st2 := [iV v4]) rfl) ?_
      clear he5
      refine flp2 (go_if_eq (pc := 20) (Y := YJ5_hashCode) 33 dJ5_hashCode_20 (by decide)) ?_ ?_
      · exact nog
      · refine im (go_aload_n (pc := 23) (Y := YJ5_hashCode) 1 dJ5_hashCode_23 rfl rfl) ?_
        refine flp (go_gR (pc := 24) (Y := YJ5_hashCode) fF1031 (by decide) q577 (Or.inl rfl) dJ5_hashCode_24) (fun v6 => ?_)
        refine bpg (fun v7 he8 => ?_)
        refine im (go_callS (pc := 27) (Y := YJ5_hashCode) (Yc := YJ10_hashCode) (y := yJ10_hashCode) (n := 1) [rV v6] [] rfl (mJ10_hashCode s0 he8) YOK_J10_hashCode rfl q627 q146 q626 q625 (Nat.le_of_ble_eq_true rfl) (Nat.le_of_ble_eq_true rfl) (Nat.le_of_ble_eq_true rfl) dJ5_hashCode_27 (st2 := [iV v7]) rfl) ?_
        clear he8
        refine im (go_goto (pc := 30) (Y := YJ5_hashCode) 40 dJ5_hashCode_30 (by decide)) ?_
        refine im (go_istore_n (pc := 40) (Y := YJ5_hashCode) (ls2 := [(1, iV v7), (0, rV (some this))]) dJ5_hashCode_40 rfl (Nat.le_of_ble_eq_true rfl) rfl) ?_
        refine im (go_iload_n (pc := 41) (Y := YJ5_hashCode) 0 dJ5_hashCode_41 rfl rfl) ?_
        refine flp2 (go_if_ne (pc := 42) (Y := YJ5_hashCode) 53 dJ5_hashCode_42 (by decide)) ?_ ?_
        · refine im (go_aload_n (pc := 45) (Y := YJ5_hashCode) 1 dJ5_hashCode_45 rfl rfl) ?_
          refine im (go_iconst (pc := 46) (Y := YJ5_hashCode) (v := 1) dJ5_hashCode_46 rfl) ?_
          refine flp (go_pI (pc := 47) (Y := YJ5_hashCode) fF62 (by decide) q580 (Or.inl rfl) (Or.inl rfl) rfl rfl rfl dJ5_hashCode_47) (fun s9 => ?_)
          refine im (go_goto (pc := 50) (Y := YJ5_hashCode) 58 dJ5_hashCode_50 (by decide)) ?_
          refine im (go_iload_n (pc := 58) (Y := YJ5_hashCode) 0 dJ5_hashCode_58 rfl rfl) ?_
          refine e2 (fun q0 q1 => ?_)
          subst q0
          subst q1
          exact go_iret (pc := 59) (Y := YJ5_hashCode) rfl dJ5_hashCode_59
        · refine im (go_aload_n (pc := 53) (Y := YJ5_hashCode) 1 dJ5_hashCode_53 rfl rfl) ?_
          refine im (go_iload_n (pc := 54) (Y := YJ5_hashCode) 0 dJ5_hashCode_54 rfl rfl) ?_
          refine flp (go_pI (pc := 55) (Y := YJ5_hashCode) fF61 (by decide) q579 (Or.inl rfl) (Or.inl rfl) rfl rfl rfl dJ5_hashCode_55) (fun s10 => ?_)
          refine im (go_iload_n (pc := 58) (Y := YJ5_hashCode) 0 dJ5_hashCode_58 rfl rfl) ?_
          refine e2 (fun q0 q1 => ?_)
          subst q0
          subst q1
          exact go_iret (pc := 59) (Y := YJ5_hashCode) rfl dJ5_hashCode_59
    · refine im (go_iload_n (pc := 58) (Y := YJ5_hashCode) 0 dJ5_hashCode_58 rfl rfl) ?_
      refine e2 (fun q0 q1 => ?_)
      subst q0
      subst q1
      exact go_iret (pc := 59) (Y := YJ5_hashCode) rfl dJ5_hashCode_59
  · refine im (go_iload_n (pc := 58) (Y := YJ5_hashCode) 0 dJ5_hashCode_58 rfl rfl) ?_
    refine e2 (fun q0 q1 => ?_)
    subst q0
    subst q1
    exact go_iret (pc := 59) (Y := YJ5_hashCode) rfl dJ5_hashCode_59
abbrev YJ10_equals : mY := (RJ10, cJ10_equals, 3, (Option.some .boolean), 0, 0, false)
theorem YOK_J10_equals : YOK yJ10_equals 2 := ⟨⟨by decide +kernel, by decide +kernel⟩, by decide +kernel⟩
theorem sJ10_equals_L9_go {G : gG} {s0 : St} {vE : Int32} (s3 : St) (i0 : Option Nat) (i1 : Option Nat) : ∀ (n : Nat) (v4 : Int32) (o : Int32 ⊕ (Unit)), sJ10_equals_L9 s3 i0 i1 n v4 = some o → (∀ r, o = .inl r → r = vE) → (∀ (_ : Unit), o = .inr () → Go G YJ10_equals s0 s3 (some (iV vE)) 32 [] [] s3) → Go G YJ10_equals s0 s3 (some (iV vE)) 9 [(0, rV i0), (1, rV i1), (2, iV v4)] [] s3 := by
  intro n
  induction n with
  | zero => intro v4 o h hr hx; rw [sJ10_equals_L9] at h; cases h
  | succ n ih =>
    intro v4 o h hr hx
    revert h
    rw [sJ10_equals_L9]
    refine im (go_iload_n (pc := 9) (Y := YJ10_equals) 2 dJ10_equals_9 rfl rfl) ?_
    refine im (go_aload_n (pc := 10) (Y := YJ10_equals) 0 dJ10_equals_10 rfl rfl) ?_
    refine flp (go_aN (pc := 11) (Y := YJ10_equals) dJ10_equals_11) (fun v5 => ?_)
    refine flp2 (go_icmp_ge (pc := 12) (Y := YJ10_equals) 32 dJ10_equals_12 (by decide)) ?_ ?_
    · refine eor (fun hq => ?_)
      exact go_sub [] rfl (hx () hq)
    · refine im (go_aload_n (pc := 15) (Y := YJ10_equals) 0 dJ10_equals_15 rfl rfl) ?_
      refine im (go_iload_n (pc := 16) (Y := YJ10_equals) 2 dJ10_equals_16 rfl rfl) ?_
      refine flp (go_lI2 (pc := 17) (Y := YJ10_equals) dJ10_equals_17) (fun v6 => ?_)
      refine im (go_aload_n (pc := 18) (Y := YJ10_equals) 1 dJ10_equals_18 rfl rfl) ?_
      refine im (go_iload_n (pc := 19) (Y := YJ10_equals) 2 dJ10_equals_19 rfl rfl) ?_
      refine flp (go_lI2 (pc := 20) (Y := YJ10_equals) dJ10_equals_20) (fun v7 => ?_)
      refine flp2 (go_icmp_eq (pc := 21) (Y := YJ10_equals) 26 dJ10_equals_21 (by decide)) ?_ ?_
      · refine im (go_iinc (pc := 26) (Y := YJ10_equals) 2 (v := (v4 + 1)) (ls2 := [(2, iV (v4 + 1)), (0, rV i0), (1, rV i1)]) dJ10_equals_26 rfl rfl (Nat.le_of_ble_eq_true rfl) rfl) ?_
        refine im (go_goto (pc := 29) (Y := YJ10_equals) 9 dJ10_equals_29 (by decide)) ?_
        exact fun hq => go_sub [1, 2, 0] rfl (ih _ _ hq hr hx)
      · refine im (go_iconst (pc := 24) (Y := YJ10_equals) (v := 0) dJ10_equals_24 rfl) ?_
        refine eor (fun hq => ?_)
        have hq2 := hr _ hq
        subst hq2
        exact go_zret (pc := 25) (Y := YJ10_equals) rfl rfl dJ10_equals_25
theorem mJ10_equals {G : gG} (s0 : St) {p0 : Option Nat} {p1 : Option Nat} {vE : Int32} (h : sJ10_equals s0 p0 p1 = some vE) : Mt G YJ10_equals yJ10_equals [rV p0, rV p1] s0 (some (iV vE)) s0 := by
  refine go_start (ls0 := [(0, rV p0), (1, rV p1)]) (by decide +kernel) rfl (fun h => by cases h) (Nat.le_of_ble_eq_true rfl) rfl ?_
  revert h
  unfold sJ10_equals
  refine im (go_aload_n (pc := 0) (Y := YJ10_equals) 0 dJ10_equals_0 rfl rfl) ?_
  refine flp (go_aN (pc := 1) (Y := YJ10_equals) dJ10_equals_1) (fun v1 => ?_)
  refine im (go_aload_n (pc := 2) (Y := YJ10_equals) 1 dJ10_equals_2 rfl rfl) ?_
  refine flp (go_aN (pc := 3) (Y := YJ10_equals) dJ10_equals_3) (fun v2 => ?_)
  refine flp2 (go_icmp_ne (pc := 4) (Y := YJ10_equals) 34 dJ10_equals_4 (by decide)) ?_ ?_
  · refine im (go_iconst (pc := 7) (Y := YJ10_equals) (v := 0) dJ10_equals_7 rfl) ?_
    refine im (go_istore_n (pc := 8) (Y := YJ10_equals) (ls2 := [(2, iV 0), (0, rV p0), (1, rV p1)]) dJ10_equals_8 rfl (Nat.le_of_ble_eq_true rfl) rfl) ?_
    refine lcg (fun o11 he8 h9 => ?_)
    refine go_sub [1, 2, 0] rfl (sJ10_equals_L9_go s0 p0 p1 FU _ _ he8 h9.1 (fun _ hq => ?_))
    have hw := h9.2 () hq
    clear he8
    revert hw
    refine im (go_iconst (pc := 32) (Y := YJ10_equals) (v := 1) dJ10_equals_32 rfl) ?_
    refine e1 (fun q0 => ?_)
    subst q0
    exact go_zret (pc := 33) (Y := YJ10_equals) rfl rfl dJ10_equals_33
  · refine im (go_iconst (pc := 34) (Y := YJ10_equals) (v := 0) dJ10_equals_34 rfl) ?_
    refine e1 (fun q0 => ?_)
    subst q0
    exact go_zret (pc := 35) (Y := YJ10_equals) rfl rfl dJ10_equals_35
abbrev YJ5_equals : mY := (RJ5, cJ5_equals, 3, (Option.some .boolean), 1, 22, false)
theorem YOK_J5_equals : YOK yJ5_equals 1 := ⟨⟨by decide +kernel, by decide +kernel⟩, by decide +kernel⟩
theorem mJ5_equals {G : gG} (s0 : St) {this : Nat} {p0 : Option Nat} {vE : Int32} (h : sJ5_equals s0 this p0 = some vE) : Mt G YJ5_equals yJ5_equals [rV (some this), rV p0] s0 (some (iV vE)) s0 := by
  refine go_start (ls0 := [(0, rV (some this)), (1, rV p0)]) (by decide +kernel) rfl (fun h => by cases h) (Nat.le_of_ble_eq_true rfl) rfl ?_
  revert h
  unfold sJ5_equals
  refine im (go_aload_n (pc := 0) (Y := YJ5_equals) 0 dJ5_equals_0 rfl rfl) ?_
  refine im (go_aload_n (pc := 1) (Y := YJ5_equals) 1 dJ5_equals_1 rfl rfl) ?_
  refine flp2 (go_acmp_ne (pc := 2) (Y := YJ5_equals) 7 dJ5_equals_2 (by decide)) ?_ ?_
  · refine im (go_iconst (pc := 5) (Y := YJ5_equals) (v := 1) dJ5_equals_5 rfl) ?_
    refine e1 (fun q0 => ?_)
    subst q0
    exact go_zret (pc := 6) (Y := YJ5_equals) rfl rfl dJ5_equals_6
  · refine im (go_aload_n (pc := 7) (Y := YJ5_equals) 1 dJ5_equals_7 rfl rfl) ?_
    refine flp (go_inst (pc := 8) (Y := YJ5_equals) (cs := [13]) (nm := "java/lang/String") (by decide +kernel) q675 dJ5_equals_8) (fun h1 => ?_)
    revert h1
    refine flp2 (go_if_eq (pc := 11) (Y := YJ5_equals) 54 dJ5_equals_11 (by decide)) ?_ ?_
    · refine im (go_iconst (pc := 54) (Y := YJ5_equals) (v := 0) dJ5_equals_54 rfl) ?_
      refine e1 (fun q0 => ?_)
      subst q0
      exact go_zret (pc := 55) (Y := YJ5_equals) rfl rfl dJ5_equals_55
    · refine im (go_aload_n (pc := 14) (Y := YJ5_equals) 1 dJ5_equals_14 rfl rfl) ?_
      refine flp (go_cast (pc := 15) (Y := YJ5_equals) (cs := [13]) (nm := "java/lang/String") (by decide +kernel) q675 dJ5_equals_15) (fun h2 => ?_)
      revert h2
      refine im (go_astore_n (pc := 18) (Y := YJ5_equals) (ls2 := [(2, rV p0), (0, rV (some this)), (1, rV p0)]) dJ5_equals_18 rfl (Nat.le_of_ble_eq_true rfl) rfl) ?_
      refine im (go_gsI (pc := 19) (Y := YJ5_equals) (v := 1) (O := "java/lang/String") (f := "COMPACT_STRINGS") (d := "Z") (by decide +kernel) q563 rfl dJ5_equals_19) ?_
      refine flp2 (go_if_eq (pc := 22) (Y := YJ5_equals) 36 dJ5_equals_22 (by decide)) ?_ ?_
      · refine im (go_aload_n (pc := 36) (Y := YJ5_equals) 1 dJ5_equals_36 rfl rfl) ?_
        refine flp (go_gR (pc := 37) (Y := YJ5_equals) fF1031 (by decide) q577 (Or.inl rfl) dJ5_equals_37) (fun v3 => ?_)
        refine im (go_aload_n (pc := 40) (Y := YJ5_equals) 0 dJ5_equals_40 rfl rfl) ?_
        refine flp (go_gR (pc := 41) (Y := YJ5_equals) fF1031 (by decide) q577 (Or.inl rfl) dJ5_equals_41) (fun v4 => ?_)
        refine bpg (fun v5 he6 => ?_)
        refine im (go_callS (pc := 44) (Y := YJ5_equals) (Yc := YJ10_equals) (y := yJ10_equals) (n := 2) [rV v3, rV v4] [] rfl (mJ10_equals s0 he6) YOK_J10_equals rfl q678 q146 q677 q676 (Nat.le_of_ble_eq_true rfl) (Nat.le_of_ble_eq_true rfl) (Nat.le_of_ble_eq_true rfl) dJ5_equals_44 (st2 := [iV v5]) rfl) ?_
        clear he6
        refine flp2 (go_if_eq (pc := 47) (Y := YJ5_equals) 54 dJ5_equals_47 (by decide)) ?_ ?_
        · refine im (go_iconst (pc := 54) (Y := YJ5_equals) (v := 0) dJ5_equals_54 rfl) ?_
          refine e1 (fun q0 => ?_)
          subst q0
          exact go_zret (pc := 55) (Y := YJ5_equals) rfl rfl dJ5_equals_55
        · refine im (go_iconst (pc := 50) (Y := YJ5_equals) (v := 1) dJ5_equals_50 rfl) ?_
          refine im (go_goto (pc := 51) (Y := YJ5_equals) 55 dJ5_equals_51 (by decide)) ?_
          refine e1 (fun q0 => ?_)
          subst q0
          exact go_zret (pc := 55) (Y := YJ5_equals) rfl rfl dJ5_equals_55
      · refine im (go_aload_n (pc := 25) (Y := YJ5_equals) 1 dJ5_equals_25 rfl rfl) ?_
        refine flp (go_gI (pc := 26) (Y := YJ5_equals) fF60 (by decide) q578 (Or.inl rfl) dJ5_equals_26) (fun v7 => ?_)
        refine im (go_aload_n (pc := 29) (Y := YJ5_equals) 0 dJ5_equals_29 rfl rfl) ?_
        refine flp (go_gI (pc := 30) (Y := YJ5_equals) fF60 (by decide) q578 (Or.inl rfl) dJ5_equals_30) (fun v8 => ?_)
        refine flp2 (go_icmp_ne (pc := 33) (Y := YJ5_equals) 54 dJ5_equals_33 (by decide)) ?_ ?_
        · refine im (go_aload_n (pc := 36) (Y := YJ5_equals) 1 dJ5_equals_36 rfl rfl) ?_
          refine flp (go_gR (pc := 37) (Y := YJ5_equals) fF1031 (by decide) q577 (Or.inl rfl) dJ5_equals_37) (fun v9 => ?_)
          refine im (go_aload_n (pc := 40) (Y := YJ5_equals) 0 dJ5_equals_40 rfl rfl) ?_
          refine flp (go_gR (pc := 41) (Y := YJ5_equals) fF1031 (by decide) q577 (Or.inl rfl) dJ5_equals_41) (fun v10 => ?_)
          refine bpg (fun v11 he12 => ?_)
          refine im (go_callS (pc := 44) (Y := YJ5_equals) (Yc := YJ10_equals) (y := yJ10_equals) (n := 2) [rV v9, rV v10] [] rfl (mJ10_equals s0 he12) YOK_J10_equals rfl q678 q146 q677 q676 (Nat.le_of_ble_eq_true rfl) (Nat.le_of_ble_eq_true rfl) (Nat.le_of_ble_eq_true rfl) dJ5_equals_44 (st2 := [iV v11]) rfl) ?_
          clear he12
          refine flp2 (go_if_eq (pc := 47) (Y := YJ5_equals) 54 dJ5_equals_47 (by decide)) ?_ ?_
          · refine im (go_iconst (pc := 54) (Y := YJ5_equals) (v := 0) dJ5_equals_54 rfl) ?_
            refine e1 (fun q0 => ?_)
            subst q0
            exact go_zret (pc := 55) (Y := YJ5_equals) rfl rfl dJ5_equals_55
          · refine im (go_iconst (pc := 50) (Y := YJ5_equals) (v := 1) dJ5_equals_50 rfl) ?_
            refine im (go_goto (pc := 51) (Y := YJ5_equals) 55 dJ5_equals_51 (by decide)) ?_
            refine e1 (fun q0 => ?_)
            subst q0
            exact go_zret (pc := 55) (Y := YJ5_equals) rfl rfl dJ5_equals_55
        · refine im (go_iconst (pc := 54) (Y := YJ5_equals) (v := 0) dJ5_equals_54 rfl) ?_
          refine e1 (fun q0 => ?_)
          subst q0
          exact go_zret (pc := 55) (Y := YJ5_equals) rfl rfl dJ5_equals_55
abbrev YJ2_size : mY := (RJ2, cJ2_size, 1, (Option.some .int), 0, 0, false)
theorem YOK_J2_size : YOK yJ2_size 0 := ⟨⟨by decide +kernel, by decide +kernel⟩, by decide +kernel⟩
theorem mJ2_size {G : gG} (s0 : St) {this : Nat} {vE : Int32} (h : sJ2_size s0 this = some vE) : Mt G YJ2_size yJ2_size [rV (some this)] s0 (some (iV vE)) s0 := by
  refine go_start (ls0 := [(0, rV (some this))]) (by decide +kernel) rfl (fun h => by cases h) (Nat.le_of_ble_eq_true rfl) rfl ?_
  revert h
  unfold sJ2_size
  refine im (go_aload_n (pc := 0) (Y := YJ2_size) 0 dJ2_size_0 rfl rfl) ?_
  refine flp (go_gI (pc := 1) (Y := YJ2_size) fF18 (by decide) q184 (Or.inl rfl) dJ2_size_1) (fun v1 => ?_)
  refine e1 (fun q0 => ?_)
  subst q0
  exact go_iret (pc := 4) (Y := YJ2_size) rfl dJ2_size_4
abbrev YJ11_checkIndex : mY := (RJ11, cJ11_checkIndex, 3, (Option.some .int), 0, 0, false)
theorem YOK_J11_checkIndex : YOK yJ11_checkIndex 3 := ⟨⟨by decide +kernel, by decide +kernel⟩, by decide +kernel⟩
theorem mJ11_checkIndex {G : gG} (s0 : St) {p0 : Int32} {p1 : Int32} {p2 : Option Nat} {vE : Int32} (h : sJ11_checkIndex s0 p0 p1 p2 = some vE) : Mt G YJ11_checkIndex yJ11_checkIndex [iV p0, iV p1, rV p2] s0 (some (iV vE)) s0 := by
  refine go_start (ls0 := [(0, iV p0), (1, iV p1), (2, rV p2)]) (by decide +kernel) rfl (fun h => by cases h) (Nat.le_of_ble_eq_true rfl) rfl ?_
  revert h
  unfold sJ11_checkIndex
  refine im (go_iload_n (pc := 0) (Y := YJ11_checkIndex) 0 dJ11_checkIndex_0 rfl rfl) ?_
  refine flp2 (go_if_lt (pc := 1) (Y := YJ11_checkIndex) 9 dJ11_checkIndex_1 (by decide)) ?_ ?_
  · exact nog
  · refine im (go_iload_n (pc := 4) (Y := YJ11_checkIndex) 0 dJ11_checkIndex_4 rfl rfl) ?_
    refine im (go_iload_n (pc := 5) (Y := YJ11_checkIndex) 1 dJ11_checkIndex_5 rfl rfl) ?_
    refine flp2 (go_icmp_lt (pc := 6) (Y := YJ11_checkIndex) 16 dJ11_checkIndex_6 (by decide)) ?_ ?_
    · refine im (go_iload_n (pc := 16) (Y := YJ11_checkIndex) 0 dJ11_checkIndex_16 rfl rfl) ?_
      refine e1 (fun q0 => ?_)
      subst q0
      exact go_iret (pc := 17) (Y := YJ11_checkIndex) rfl dJ11_checkIndex_17
    · exact nog
abbrev YJ12_checkIndex : mY := (RJ12, cJ12_checkIndex, 2, (Option.some .int), 1, 22, false)
theorem YOK_J12_checkIndex : YOK yJ12_checkIndex 2 := ⟨⟨by decide +kernel, by decide +kernel⟩, by decide +kernel⟩
theorem mJ12_checkIndex {G : gG} (s0 : St) {p0 : Int32} {p1 : Int32} {vE : Int32} (h : sJ12_checkIndex s0 p0 p1 = some vE) : Mt G YJ12_checkIndex yJ12_checkIndex [iV p0, iV p1] s0 (some (iV vE)) s0 := by
  refine go_start (ls0 := [(0, iV p0), (1, iV p1)]) (by decide +kernel) rfl (fun h => by cases h) (Nat.le_of_ble_eq_true rfl) rfl ?_
  revert h
  unfold sJ12_checkIndex
  refine im (go_iload_n (pc := 0) (Y := YJ12_checkIndex) 0 dJ12_checkIndex_0 rfl rfl) ?_
  refine im (go_iload_n (pc := 1) (Y := YJ12_checkIndex) 1 dJ12_checkIndex_1 rfl rfl) ?_
  refine im (go_null (pc := 2) (Y := YJ12_checkIndex) dJ12_checkIndex_2) ?_
  refine bpg (fun v1 he2 => ?_)
  refine im (go_callS (pc := 3) (Y := YJ12_checkIndex) (Yc := YJ11_checkIndex) (y := yJ11_checkIndex) (n := 3) [iV p0, iV p1, rV none] [] rfl (mJ11_checkIndex s0 he2) YOK_J11_checkIndex rfl q526 q147 q525 q773 (Nat.le_of_ble_eq_true rfl) (Nat.le_of_ble_eq_true rfl) (Nat.le_of_ble_eq_true rfl) dJ12_checkIndex_3 (st2 := [iV v1]) rfl) ?_
  clear he2
  refine e1 (fun q0 => ?_)
  subst q0
  exact go_iret (pc := 6) (Y := YJ12_checkIndex) rfl dJ12_checkIndex_6
abbrev YJ2_elementData : mY := (RJ2, cJ2_elementData, 2, (Option.some (.object "java/lang/Object")), 0, 0, false)
theorem YOK_J2_elementData : YOK yJ2_elementData 1 := ⟨⟨by decide +kernel, by decide +kernel⟩, by decide +kernel⟩
theorem mJ2_elementData {G : gG} (s0 : St) {this : Nat} {p0 : Int32} {vE : Option Nat} (h : sJ2_elementData s0 this p0 = some vE) : Mt G YJ2_elementData yJ2_elementData [rV (some this), iV p0] s0 (some (rV vE)) s0 := by
  refine go_start (ls0 := [(0, rV (some this)), (1, iV p0)]) (by decide +kernel) rfl (fun h => by cases h) (Nat.le_of_ble_eq_true rfl) rfl ?_
  revert h
  unfold sJ2_elementData
  refine im (go_aload_n (pc := 0) (Y := YJ2_elementData) 0 dJ2_elementData_0 rfl rfl) ?_
  refine flp (go_gR (pc := 1) (Y := YJ2_elementData) fF1008 (by decide) q183 (Or.inl rfl) dJ2_elementData_1) (fun v1 => ?_)
  refine im (go_iload_n (pc := 4) (Y := YJ2_elementData) 1 dJ2_elementData_4 rfl rfl) ?_
  refine flp (go_lR (pc := 5) (Y := YJ2_elementData) dJ2_elementData_5) (fun v2 => ?_)
  refine e1 (fun q0 => ?_)
  subst q0
  exact go_aret (pc := 6) (Y := YJ2_elementData) rfl (Or.inl ⟨_, rfl⟩) dJ2_elementData_6
abbrev YJ2_get : mY := (RJ2, cJ2_get, 2, (Option.some (.object "java/lang/Object")), 2, 43, false)
theorem YOK_J2_get : YOK yJ2_get 1 := ⟨⟨by decide +kernel, by decide +kernel⟩, by decide +kernel⟩
theorem mJ2_get {G : gG} (s0 : St) {this : Nat} {p0 : Int32} {vE : Option Nat} (h : sJ2_get s0 this p0 = some vE) : Mt G YJ2_get yJ2_get [rV (some this), iV p0] s0 (some (rV vE)) s0 := by
  refine go_start (ls0 := [(0, rV (some this)), (1, iV p0)]) (by decide +kernel) rfl (fun h => by cases h) (Nat.le_of_ble_eq_true rfl) rfl ?_
  revert h
  unfold sJ2_get
  refine im (go_iload_n (pc := 0) (Y := YJ2_get) 1 dJ2_get_0 rfl rfl) ?_
  refine im (go_aload_n (pc := 1) (Y := YJ2_get) 0 dJ2_get_1 rfl rfl) ?_
  refine flp (go_gI (pc := 2) (Y := YJ2_get) fF18 (by decide) q184 (Or.inl rfl) dJ2_get_2) (fun v1 => ?_)
  refine bpg (fun v2 he3 => ?_)
  refine im (go_callS (pc := 5) (Y := YJ2_get) (Yc := YJ12_checkIndex) (y := yJ12_checkIndex) (n := 2) [iV p0, iV v1] [] rfl (mJ12_checkIndex s0 he3) YOK_J12_checkIndex rfl q772 q149 q771 q770 (Nat.le_of_ble_eq_true rfl) (Nat.le_of_ble_eq_true rfl) (Nat.le_of_ble_eq_true rfl) dJ2_get_5 (st2 := [iV v2]) rfl) ?_
  clear he3
  refine im (go_pop (pc := 8) (Y := YJ2_get) dJ2_get_8 rfl) ?_
  refine im (go_aload_n (pc := 9) (Y := YJ2_get) 0 dJ2_get_9 rfl rfl) ?_
  refine im (go_iload_n (pc := 10) (Y := YJ2_get) 1 dJ2_get_10 rfl rfl) ?_
  refine kdg (fun k4 => ?_)
  refine bpg (fun v5 he6 => ?_)
  refine im (go_callV (pc := 11) (Y := YJ2_get) (Yc := YJ2_elementData) (y := yJ2_elementData) (n := 1) (c0 := 1) (q := (RJ2, TJ2, 3)) this [iV p0] [] rfl rfl k4 (mJ2_elementData s0 he6) YOK_J2_elementData rfl q777 q132 q775 q776 q774 (Nat.le_of_ble_eq_true rfl) (Nat.le_of_ble_eq_true rfl) (Nat.le_of_ble_eq_true rfl) dJ2_get_11 (st2 := [rV v5]) rfl) ?_
  clear he6
  refine e1 (fun q0 => ?_)
  subst q0
  exact go_aret (pc := 14) (Y := YJ2_get) rfl (Or.inl ⟨_, rfl⟩) dJ2_get_14
abbrev YJ7_hugeLength : mY := (RJ7, cJ7_hugeLength, 3, (Option.some .int), 0, 0, false)
theorem YOK_J7_hugeLength : YOK yJ7_hugeLength 2 := ⟨⟨by decide +kernel, by decide +kernel⟩, by decide +kernel⟩
theorem mJ7_hugeLength {G : gG} (s0 : St) {p0 : Int32} {p1 : Int32} {vE : Int32} (h : sJ7_hugeLength s0 p0 p1 = some vE) : Mt G YJ7_hugeLength yJ7_hugeLength [iV p0, iV p1] s0 (some (iV vE)) s0 := by
  refine go_start (ls0 := [(0, iV p0), (1, iV p1)]) (by decide +kernel) rfl (fun h => by cases h) (Nat.le_of_ble_eq_true rfl) rfl ?_
  revert h
  unfold sJ7_hugeLength
  refine im (go_iload_n (pc := 0) (Y := YJ7_hugeLength) 0 dJ7_hugeLength_0 rfl rfl) ?_
  refine im (go_iload_n (pc := 1) (Y := YJ7_hugeLength) 1 dJ7_hugeLength_1 rfl rfl) ?_
  refine im (go_iadd (pc := 2) (Y := YJ7_hugeLength) dJ7_hugeLength_2) ?_
  refine im (go_istore_n (pc := 3) (Y := YJ7_hugeLength) (ls2 := [(2, iV (p0 + p1)), (0, iV p0), (1, iV p1)]) dJ7_hugeLength_3 rfl (Nat.le_of_ble_eq_true rfl) rfl) ?_
  refine im (go_iload_n (pc := 4) (Y := YJ7_hugeLength) 0 dJ7_hugeLength_4 rfl rfl) ?_
  refine flp2 (go_if_ge (pc := 5) (Y := YJ7_hugeLength) 49 dJ7_hugeLength_5 (by decide)) ?_ ?_
  · refine im (go_iload_n (pc := 49) (Y := YJ7_hugeLength) 0 dJ7_hugeLength_49 rfl rfl) ?_
    refine im (go_ldcI (pc := 50) (Y := YJ7_hugeLength) (v := 2147483639) dJ7_hugeLength_50 q453) ?_
    refine flp2 (go_icmp_gt (pc := 52) (Y := YJ7_hugeLength) 58 dJ7_hugeLength_52 (by decide)) ?_ ?_
    · refine im (go_iload_n (pc := 58) (Y := YJ7_hugeLength) 0 dJ7_hugeLength_58 rfl rfl) ?_
      refine e1 (fun q0 => ?_)
      subst q0
      exact go_iret (pc := 59) (Y := YJ7_hugeLength) rfl dJ7_hugeLength_59
    · refine im (go_ldcI (pc := 55) (Y := YJ7_hugeLength) (v := 2147483639) dJ7_hugeLength_55 q453) ?_
      refine e1 (fun q0 => ?_)
      subst q0
      exact go_iret (pc := 57) (Y := YJ7_hugeLength) rfl dJ7_hugeLength_57
  · exact nog
abbrev YJ7_newLength : mY := (RJ7, cJ7_newLength, 4, (Option.some .int), 1, 26, false)
theorem YOK_J7_newLength : YOK yJ7_newLength 3 := ⟨⟨by decide +kernel, by decide +kernel⟩, by decide +kernel⟩
theorem mJ7_newLength {G : gG} (s0 : St) {p0 : Int32} {p1 : Int32} {p2 : Int32} {vE : Int32} (h : sJ7_newLength s0 p0 p1 p2 = some vE) : Mt G YJ7_newLength yJ7_newLength [iV p0, iV p1, iV p2] s0 (some (iV vE)) s0 := by
  refine go_start (ls0 := [(0, iV p0), (1, iV p1), (2, iV p2)]) (by decide +kernel) rfl (fun h => by cases h) (Nat.le_of_ble_eq_true rfl) rfl ?_
  revert h
  unfold sJ7_newLength
  refine im (go_iload_n (pc := 0) (Y := YJ7_newLength) 0 dJ7_newLength_0 rfl rfl) ?_
  refine im (go_iload_n (pc := 1) (Y := YJ7_newLength) 1 dJ7_newLength_1 rfl rfl) ?_
  refine im (go_iload_n (pc := 2) (Y := YJ7_newLength) 2 dJ7_newLength_2 rfl rfl) ?_
  refine im (go_max (pc := 3) (Y := YJ7_newLength) q450 q451 q143 q452 (Nat.le_of_ble_eq_true rfl) (Nat.le_of_ble_eq_true rfl) dJ7_newLength_3) ?_
  refine im (go_iadd (pc := 6) (Y := YJ7_newLength) dJ7_newLength_6) ?_
  refine im (go_istore_n (pc := 7) (Y := YJ7_newLength) (ls2 := [(3, iV (p0 + (mxI p1 p2))), (0, iV p0), (1, iV p1), (2, iV p2)]) dJ7_newLength_7 rfl (Nat.le_of_ble_eq_true rfl) rfl) ?_
  refine im (go_iconst (pc := 8) (Y := YJ7_newLength) (v := 0) dJ7_newLength_8 rfl) ?_
  refine im (go_iload_n (pc := 9) (Y := YJ7_newLength) 0 dJ7_newLength_9 rfl rfl) ?_
  refine flp2 (go_icmp_ge (pc := 10) (Y := YJ7_newLength) 21 dJ7_newLength_10 (by decide)) ?_ ?_
  · refine im (go_iload_n (pc := 21) (Y := YJ7_newLength) 1 dJ7_newLength_21 rfl rfl) ?_
    refine im (go_iload_n (pc := 22) (Y := YJ7_newLength) 2 dJ7_newLength_22 rfl rfl) ?_
    refine bpg (fun v1 he2 => ?_)
    refine im (go_callS (pc := 23) (Y := YJ7_newLength) (Yc := YJ7_hugeLength) (y := yJ7_hugeLength) (n := 2) [iV p0, iV p1] [] rfl (mJ7_hugeLength s0 he2) YOK_J7_hugeLength rfl q456 q142 q455 q454 (Nat.le_of_ble_eq_true rfl) (Nat.le_of_ble_eq_true rfl) (Nat.le_of_ble_eq_true rfl) dJ7_newLength_23 (st2 := [iV v1]) rfl) ?_
    clear he2
    refine e1 (fun q0 => ?_)
    subst q0
    exact go_iret (pc := 26) (Y := YJ7_newLength) rfl dJ7_newLength_26
  · refine im (go_iload_n (pc := 13) (Y := YJ7_newLength) 0 dJ7_newLength_13 rfl rfl) ?_
    refine im (go_ldcI (pc := 14) (Y := YJ7_newLength) (v := 2147483639) dJ7_newLength_14 q453) ?_
    refine flp2 (go_icmp_gt (pc := 16) (Y := YJ7_newLength) 21 dJ7_newLength_16 (by decide)) ?_ ?_
    · refine im (go_iload_n (pc := 21) (Y := YJ7_newLength) 1 dJ7_newLength_21 rfl rfl) ?_
      refine im (go_iload_n (pc := 22) (Y := YJ7_newLength) 2 dJ7_newLength_22 rfl rfl) ?_
      refine bpg (fun v3 he4 => ?_)
      refine im (go_callS (pc := 23) (Y := YJ7_newLength) (Yc := YJ7_hugeLength) (y := yJ7_hugeLength) (n := 2) [iV p0, iV p1] [] rfl (mJ7_hugeLength s0 he4) YOK_J7_hugeLength rfl q456 q142 q455 q454 (Nat.le_of_ble_eq_true rfl) (Nat.le_of_ble_eq_true rfl) (Nat.le_of_ble_eq_true rfl) dJ7_newLength_23 (st2 := [iV v3]) rfl) ?_
      clear he4
      refine e1 (fun q0 => ?_)
      subst q0
      exact go_iret (pc := 26) (Y := YJ7_newLength) rfl dJ7_newLength_26
    · refine im (go_iload_n (pc := 19) (Y := YJ7_newLength) 0 dJ7_newLength_19 rfl rfl) ?_
      refine e1 (fun q0 => ?_)
      subst q0
      exact go_iret (pc := 20) (Y := YJ7_newLength) rfl dJ7_newLength_20
abbrev YJ9_copyOf_3 : mY := (RJ9, cJ9_copyOf_3, 4, (Option.some (.array (.object "java/lang/Object"))), 1, 26, false)
theorem YOK_J9_copyOf_3 : YOK yJ9_copyOf_3 3 := ⟨⟨by decide +kernel, by decide +kernel⟩, by decide +kernel⟩
theorem mJ9_copyOf_3 {G : gG} (s0 : St) {p0 : Option Nat} {p1 : Int32} {p2 : Option Nat} {sE : St} {vE : Option Nat} (h : sJ9_copyOf_3 s0 p0 p1 p2 = some (sE, vE)) : Mt G YJ9_copyOf_3 yJ9_copyOf_3 [rV p0, iV p1, rV p2] s0 (some (rV vE)) sE := by
  refine go_start (ls0 := [(0, rV p0), (1, iV p1), (2, rV p2)]) (by decide +kernel) rfl (fun h => by cases h) (Nat.le_of_ble_eq_true rfl) rfl ?_
  revert h
  unfold sJ9_copyOf_3
  refine im (go_aload_n (pc := 0) (Y := YJ9_copyOf_3) 2 dJ9_copyOf_3_0 rfl rfl) ?_
  refine im (go_ldcM (pc := 1) (Y := YJ9_copyOf_3) q835 dJ9_copyOf_3_1) ?_
  refine flp2 (go_acmp_ne (pc := 3) (Y := YJ9_copyOf_3) 13 dJ9_copyOf_3_3 (by decide)) ?_ ?_
  · refine im (go_iload_n (pc := 6) (Y := YJ9_copyOf_3) 1 dJ9_copyOf_3_6 rfl rfl) ?_
    refine flp (go_nwR (pc := 7) (Y := YJ9_copyOf_3) q837 dJ9_copyOf_3_7) (fun s1 a2 => ?_)
    refine im (go_goto (pc := 10) (Y := YJ9_copyOf_3) 24 dJ9_copyOf_3_10 (by decide)) ?_
    refine im (go_astore_n (pc := 24) (Y := YJ9_copyOf_3) (ls2 := [(3, rV (some a2)), (0, rV p0), (1, iV p1), (2, rV p2)]) dJ9_copyOf_3_24 rfl (Nat.le_of_ble_eq_true rfl) rfl) ?_
    refine im (go_aload_n (pc := 25) (Y := YJ9_copyOf_3) 1 dJ9_copyOf_3_25 rfl rfl) ?_
    refine im (go_iconst (pc := 26) (Y := YJ9_copyOf_3) (v := 0) dJ9_copyOf_3_26 rfl) ?_
    refine im (go_aload_n (pc := 27) (Y := YJ9_copyOf_3) 0 dJ9_copyOf_3_27 rfl rfl) ?_
    refine im (go_iconst (pc := 28) (Y := YJ9_copyOf_3) (v := 0) dJ9_copyOf_3_28 rfl) ?_
    refine im (go_aload_n (pc := 29) (Y := YJ9_copyOf_3) 1 dJ9_copyOf_3_29 rfl rfl) ?_
    refine flp (go_aN (pc := 30) (Y := YJ9_copyOf_3) dJ9_copyOf_3_30) (fun v3 => ?_)
    refine im (go_iload_n (pc := 31) (Y := YJ9_copyOf_3) 2 dJ9_copyOf_3_31 rfl rfl) ?_
    refine im (go_min (pc := 32) (Y := YJ9_copyOf_3) q468 q469 q143 q470 (Nat.le_of_ble_eq_true rfl) (Nat.le_of_ble_eq_true rfl) dJ9_copyOf_3_32) ?_
    refine flp (go_cpR (pc := 35) (Y := YJ9_copyOf_3) q471 q473 q472 q145 (Nat.le_of_ble_eq_true rfl) (Nat.le_of_ble_eq_true rfl) dJ9_copyOf_3_35) (fun s4 => ?_)
    refine im (go_aload_n (pc := 38) (Y := YJ9_copyOf_3) 0 dJ9_copyOf_3_38 rfl rfl) ?_
    refine e2 (fun q0 q1 => ?_)
    subst q0
    subst q1
    exact go_aret (pc := 39) (Y := YJ9_copyOf_3) rfl (Or.inr ⟨_, rfl⟩) dJ9_copyOf_3_39
  · exact nog
abbrev YJ9_copyOf_2 : mY := (RJ9, cJ9_copyOf_2, 2, (Option.some (.array (.object "java/lang/Object"))), 2, 49, false)
theorem YOK_J9_copyOf_2 : YOK yJ9_copyOf_2 2 := ⟨⟨by decide +kernel, by decide +kernel⟩, by decide +kernel⟩
theorem mJ9_copyOf_2 {G : gG} (s0 : St) {p0 : Option Nat} {p1 : Int32} {sE : St} {vE : Option Nat} (h : sJ9_copyOf_2 s0 p0 p1 = some (sE, vE)) : Mt G YJ9_copyOf_2 yJ9_copyOf_2 [rV p0, iV p1] s0 (some (rV vE)) sE := by
  refine go_start (ls0 := [(0, rV p0), (1, iV p1)]) (by decide +kernel) rfl (fun h => by cases h) (Nat.le_of_ble_eq_true rfl) rfl ?_
  revert h
  unfold sJ9_copyOf_2
  refine im (go_aload_n (pc := 0) (Y := YJ9_copyOf_2) 0 dJ9_copyOf_2_0 rfl rfl) ?_
  refine im (go_iload_n (pc := 1) (Y := YJ9_copyOf_2) 1 dJ9_copyOf_2_1 rfl rfl) ?_
  refine im (go_aload_n (pc := 2) (Y := YJ9_copyOf_2) 0 dJ9_copyOf_2_2 rfl rfl) ?_
  refine flp (go_getC (pc := 3) (Y := YJ9_copyOf_2) q809 (Nat.le_of_ble_eq_true rfl) (Nat.le_of_ble_eq_true rfl) q2327 q810 q831 dJ9_copyOf_2_3) (fun h4 => ?_)
  revert h4
  refine bdg (fun s1 v2 he3 => ?_)
  refine im (go_callS (pc := 6) (Y := YJ9_copyOf_2) (Yc := YJ9_copyOf_3) (y := yJ9_copyOf_3) (n := 3) [rV p0, iV p1, rV (s0.ks 70)] [] rfl (mJ9_copyOf_3 s0 he3) YOK_J9_copyOf_3 rfl q834 q144 q833 q832 (Nat.le_of_ble_eq_true rfl) (Nat.le_of_ble_eq_true rfl) (Nat.le_of_ble_eq_true rfl) dJ9_copyOf_2_6 (st2 := [rV v2]) rfl) ?_
  clear he3
  refine e2 (fun q0 q1 => ?_)
  subst q0
  subst q1
  exact go_aret (pc := 9) (Y := YJ9_copyOf_2) rfl (Or.inr ⟨_, rfl⟩) dJ9_copyOf_2_9
abbrev YJ2_grow_2 : mY := (RJ2, cJ2_grow_2, 4, (Option.some (.array (.object "java/lang/Object"))), 3, 70, false)
theorem YOK_J2_grow_2 : YOK yJ2_grow_2 1 := ⟨⟨by decide +kernel, by decide +kernel⟩, by decide +kernel⟩
theorem mJ2_grow_2 {G : gG} (s0 : St) {this : Nat} {p0 : Int32} {sE : St} {vE : Option Nat} (h : sJ2_grow_2 s0 this p0 = some (sE, vE)) : Mt G YJ2_grow_2 yJ2_grow_2 [rV (some this), iV p0] s0 (some (rV vE)) sE := by
  refine go_start (ls0 := [(0, rV (some this)), (1, iV p0)]) (by decide +kernel) rfl (fun h => by cases h) (Nat.le_of_ble_eq_true rfl) rfl ?_
  revert h
  unfold sJ2_grow_2
  refine im (go_aload_n (pc := 0) (Y := YJ2_grow_2) 0 dJ2_grow_2_0 rfl rfl) ?_
  refine flp (go_gR (pc := 1) (Y := YJ2_grow_2) fF1008 (by decide) q183 (Or.inl rfl) dJ2_grow_2_1) (fun v1 => ?_)
  refine flp (go_aN (pc := 4) (Y := YJ2_grow_2) dJ2_grow_2_4) (fun v2 => ?_)
  refine im (go_istore_n (pc := 5) (Y := YJ2_grow_2) (ls2 := [(2, iV v2), (0, rV (some this)), (1, iV p0)]) dJ2_grow_2_5 rfl (Nat.le_of_ble_eq_true rfl) rfl) ?_
  refine im (go_iload_n (pc := 6) (Y := YJ2_grow_2) 0 dJ2_grow_2_6 rfl rfl) ?_
  refine flp2 (go_if_gt (pc := 7) (Y := YJ2_grow_2) 20 dJ2_grow_2_7 (by decide)) ?_ ?_
  · refine im (go_iload_n (pc := 20) (Y := YJ2_grow_2) 0 dJ2_grow_2_20 rfl rfl) ?_
    refine im (go_iload_n (pc := 21) (Y := YJ2_grow_2) 2 dJ2_grow_2_21 rfl rfl) ?_
    refine im (go_iload_n (pc := 22) (Y := YJ2_grow_2) 0 dJ2_grow_2_22 rfl rfl) ?_
    refine im (go_isub (pc := 23) (Y := YJ2_grow_2) dJ2_grow_2_23) ?_
    refine im (go_iload_n (pc := 24) (Y := YJ2_grow_2) 0 dJ2_grow_2_24 rfl rfl) ?_
    refine im (go_iconst (pc := 25) (Y := YJ2_grow_2) (v := 1) dJ2_grow_2_25 rfl) ?_
    refine im (go_ishr (pc := 26) (Y := YJ2_grow_2) dJ2_grow_2_26) ?_
    refine bpg (fun v3 he4 => ?_)
    refine im (go_callS (pc := 27) (Y := YJ2_grow_2) (Yc := YJ7_newLength) (y := yJ7_newLength) (n := 3) [iV v2, iV (p0 - v2), iV (v2 >>> (1 &&& 31))] [] rfl (mJ7_newLength s0 he4) YOK_J7_newLength rfl q449 q142 q448 q805 (Nat.le_of_ble_eq_true rfl) (Nat.le_of_ble_eq_true rfl) (Nat.le_of_ble_eq_true rfl) dJ2_grow_2_27 (st2 := [iV v3]) rfl) ?_
    clear he4
    refine im (go_istore_n (pc := 30) (Y := YJ2_grow_2) (ls2 := [(3, iV v3), (2, iV v2), (0, rV (some this)), (1, iV p0)]) dJ2_grow_2_30 rfl (Nat.le_of_ble_eq_true rfl) rfl) ?_
    refine im (go_aload_n (pc := 31) (Y := YJ2_grow_2) 2 dJ2_grow_2_31 rfl rfl) ?_
    refine im (go_aload_n (pc := 32) (Y := YJ2_grow_2) 2 dJ2_grow_2_32 rfl rfl) ?_
    refine flp (go_gR (pc := 33) (Y := YJ2_grow_2) fF1008 (by decide) q183 (Or.inl rfl) dJ2_grow_2_33) (fun v5 => ?_)
    refine im (go_iload_n (pc := 36) (Y := YJ2_grow_2) 0 dJ2_grow_2_36 rfl rfl) ?_
    refine bdg (fun s6 v7 he8 => ?_)
    refine im (go_callS (pc := 37) (Y := YJ2_grow_2) (Yc := YJ9_copyOf_2) (y := yJ9_copyOf_2) (n := 2) [rV v5, iV v3] [rV (some this)] rfl (mJ9_copyOf_2 s0 he8) YOK_J9_copyOf_2 rfl q808 q144 q807 q806 (Nat.le_of_ble_eq_true rfl) (Nat.le_of_ble_eq_true rfl) (Nat.le_of_ble_eq_true rfl) dJ2_grow_2_37 (st2 := [rV v7, rV (some this)]) rfl) ?_
    clear he8
    refine im (go_dup_x1 (pc := 40) (Y := YJ2_grow_2) dJ2_grow_2_40 rfl rfl) ?_
    refine flp (go_pR (pc := 41) (Y := YJ2_grow_2) fF1008 (by decide) q183 (Or.inl rfl) (Or.inl rfl) rfl (Or.inr ⟨_, rfl⟩) dJ2_grow_2_41) (fun s9 => ?_)
    refine e2 (fun q0 q1 => ?_)
    subst q0
    subst q1
    exact go_aret (pc := 44) (Y := YJ2_grow_2) rfl (Or.inr ⟨_, rfl⟩) dJ2_grow_2_44
  · refine im (go_aload_n (pc := 10) (Y := YJ2_grow_2) 1 dJ2_grow_2_10 rfl rfl) ?_
    refine flp (go_gR (pc := 11) (Y := YJ2_grow_2) fF1008 (by decide) q183 (Or.inl rfl) dJ2_grow_2_11) (fun v10 => ?_)
    refine im (go_gsR (pc := 14) (Y := YJ2_grow_2) (i := 60) (O := "java/util/ArrayList") (f := "DEFAULTCAPACITY_EMPTY_ELEMENTDATA") (d := "[Ljava/lang/Object;") (by decide +kernel) q181 rfl dJ2_grow_2_14) ?_
    refine flp2 (go_acmp_eq (pc := 17) (Y := YJ2_grow_2) 45 dJ2_grow_2_17 (by decide)) ?_ ?_
    · refine im (go_aload_n (pc := 45) (Y := YJ2_grow_2) 1 dJ2_grow_2_45 rfl rfl) ?_
      refine im (go_bipush (pc := 46) (Y := YJ2_grow_2) (v := 10) dJ2_grow_2_46 rfl) ?_
      refine im (go_iload_n (pc := 48) (Y := YJ2_grow_2) 2 dJ2_grow_2_48 rfl rfl) ?_
      refine im (go_max (pc := 49) (Y := YJ2_grow_2) q838 q451 q143 q452 (Nat.le_of_ble_eq_true rfl) (Nat.le_of_ble_eq_true rfl) dJ2_grow_2_49) ?_
      refine flp (go_nwR (pc := 52) (Y := YJ2_grow_2) q839 dJ2_grow_2_52) (fun s11 a12 => ?_)
      refine im (go_dup_x1 (pc := 55) (Y := YJ2_grow_2) dJ2_grow_2_55 rfl rfl) ?_
      refine flp (go_pR (pc := 56) (Y := YJ2_grow_2) fF1008 (by decide) q183 (Or.inl rfl) (Or.inl rfl) rfl (Or.inr ⟨_, rfl⟩) dJ2_grow_2_56) (fun s13 => ?_)
      refine e2 (fun q0 q1 => ?_)
      subst q0
      subst q1
      exact go_aret (pc := 59) (Y := YJ2_grow_2) rfl (Or.inr ⟨_, rfl⟩) dJ2_grow_2_59
    · refine im (go_iload_n (pc := 20) (Y := YJ2_grow_2) 0 dJ2_grow_2_20 rfl rfl) ?_
      refine im (go_iload_n (pc := 21) (Y := YJ2_grow_2) 2 dJ2_grow_2_21 rfl rfl) ?_
      refine im (go_iload_n (pc := 22) (Y := YJ2_grow_2) 0 dJ2_grow_2_22 rfl rfl) ?_
      refine im (go_isub (pc := 23) (Y := YJ2_grow_2) dJ2_grow_2_23) ?_
      refine im (go_iload_n (pc := 24) (Y := YJ2_grow_2) 0 dJ2_grow_2_24 rfl rfl) ?_
      refine im (go_iconst (pc := 25) (Y := YJ2_grow_2) (v := 1) dJ2_grow_2_25 rfl) ?_
      refine im (go_ishr (pc := 26) (Y := YJ2_grow_2) dJ2_grow_2_26) ?_
      refine bpg (fun v14 he15 => ?_)
      refine im (go_callS (pc := 27) (Y := YJ2_grow_2) (Yc := YJ7_newLength) (y := yJ7_newLength) (n := 3) [iV v2, iV (p0 - v2), iV (v2 >>> (1 &&& 31))] [] rfl (mJ7_newLength s0 he15) YOK_J7_newLength rfl q449 q142 q448 q805 (Nat.le_of_ble_eq_true rfl) (Nat.le_of_ble_eq_true rfl) (Nat.le_of_ble_eq_true rfl) dJ2_grow_2_27 (st2 := [iV v14]) rfl) ?_
      clear he15
      refine im (go_istore_n (pc := 30) (Y := YJ2_grow_2) (ls2 := [(3, iV v14), (2, iV v2), (0, rV (some this)), (1, iV p0)]) dJ2_grow_2_30 rfl (Nat.le_of_ble_eq_true rfl) rfl) ?_
      refine im (go_aload_n (pc := 31) (Y := YJ2_grow_2) 2 dJ2_grow_2_31 rfl rfl) ?_
      refine im (go_aload_n (pc := 32) (Y := YJ2_grow_2) 2 dJ2_grow_2_32 rfl rfl) ?_
      refine flp (go_gR (pc := 33) (Y := YJ2_grow_2) fF1008 (by decide) q183 (Or.inl rfl) dJ2_grow_2_33) (fun v16 => ?_)
      refine im (go_iload_n (pc := 36) (Y := YJ2_grow_2) 0 dJ2_grow_2_36 rfl rfl) ?_
      refine bdg (fun s17 v18 he19 => ?_)
      refine im (go_callS (pc := 37) (Y := YJ2_grow_2) (Yc := YJ9_copyOf_2) (y := yJ9_copyOf_2) (n := 2) [rV v16, iV v14] [rV (some this)] rfl (mJ9_copyOf_2 s0 he19) YOK_J9_copyOf_2 rfl q808 q144 q807 q806 (Nat.le_of_ble_eq_true rfl) (Nat.le_of_ble_eq_true rfl) (Nat.le_of_ble_eq_true rfl) dJ2_grow_2_37 (st2 := [rV v18, rV (some this)]) rfl) ?_
      clear he19
      refine im (go_dup_x1 (pc := 40) (Y := YJ2_grow_2) dJ2_grow_2_40 rfl rfl) ?_
      refine flp (go_pR (pc := 41) (Y := YJ2_grow_2) fF1008 (by decide) q183 (Or.inl rfl) (Or.inl rfl) rfl (Or.inr ⟨_, rfl⟩) dJ2_grow_2_41) (fun s20 => ?_)
      refine e2 (fun q0 q1 => ?_)
      subst q0
      subst q1
      exact go_aret (pc := 44) (Y := YJ2_grow_2) rfl (Or.inr ⟨_, rfl⟩) dJ2_grow_2_44
abbrev YJ2_grow : mY := (RJ2, cJ2_grow, 1, (Option.some (.array (.object "java/lang/Object"))), 4, 93, false)
theorem YOK_J2_grow : YOK yJ2_grow 0 := ⟨⟨by decide +kernel, by decide +kernel⟩, by decide +kernel⟩
theorem mJ2_grow {G : gG} (s0 : St) {this : Nat} {sE : St} {vE : Option Nat} (h : sJ2_grow s0 this = some (sE, vE)) : Mt G YJ2_grow yJ2_grow [rV (some this)] s0 (some (rV vE)) sE := by
  refine go_start (ls0 := [(0, rV (some this))]) (by decide +kernel) rfl (fun h => by cases h) (Nat.le_of_ble_eq_true rfl) rfl ?_
  revert h
  unfold sJ2_grow
  refine im (go_aload_n (pc := 0) (Y := YJ2_grow) 0 dJ2_grow_0 rfl rfl) ?_
  refine im (go_aload_n (pc := 1) (Y := YJ2_grow) 0 dJ2_grow_1 rfl rfl) ?_
  refine flp (go_gI (pc := 2) (Y := YJ2_grow) fF18 (by decide) q184 (Or.inl rfl) dJ2_grow_2) (fun v1 => ?_)
  refine im (go_iconst (pc := 5) (Y := YJ2_grow) (v := 1) dJ2_grow_5 rfl) ?_
  refine im (go_iadd (pc := 6) (Y := YJ2_grow) dJ2_grow_6) ?_
  refine kdg (fun k2 => ?_)
  refine bdg (fun s3 v4 he5 => ?_)
  refine im (go_callV (pc := 7) (Y := YJ2_grow) (Yc := YJ2_grow_2) (y := yJ2_grow_2) (n := 1) (c0 := 1) (q := (RJ2, TJ2, 3)) this [iV (v1 + 1)] [] rfl rfl k2 (mJ2_grow_2 s0 he5) YOK_J2_grow_2 rfl q804 q132 q803 qs16 q801 (Nat.le_of_ble_eq_true rfl) (Nat.le_of_ble_eq_true rfl) (Nat.le_of_ble_eq_true rfl) dJ2_grow_7 (st2 := [rV v4]) rfl) ?_
  clear he5
  refine e2 (fun q0 q1 => ?_)
  subst q0
  subst q1
  exact go_aret (pc := 10) (Y := YJ2_grow) rfl (Or.inr ⟨_, rfl⟩) dJ2_grow_10
abbrev YJ2_add_2 : mY := (RJ2, cJ2_add_2, 4, (Option.none : Option Jvm.ClassFile.FieldType), 5, 113, false)
theorem YOK_J2_add_2 : YOK yJ2_add_2 3 := ⟨⟨by decide +kernel, by decide +kernel⟩, by decide +kernel⟩
theorem mJ2_add_2 {G : gG} (s0 : St) {this : Nat} {p0 : Option Nat} {p1 : Option Nat} {p2 : Int32} {sE : St} (h : sJ2_add_2 s0 this p0 p1 p2 = some sE) : Mt G YJ2_add_2 yJ2_add_2 [rV (some this), rV p0, rV p1, iV p2] s0 none sE := by
  refine go_start (ls0 := [(0, rV (some this)), (1, rV p0), (2, rV p1), (3, iV p2)]) (by decide +kernel) rfl (fun h => by cases h) (Nat.le_of_ble_eq_true rfl) rfl ?_
  revert h
  unfold sJ2_add_2
  refine im (go_iload_n (pc := 0) (Y := YJ2_add_2) 3 dJ2_add_2_0 rfl rfl) ?_
  refine im (go_aload_n (pc := 1) (Y := YJ2_add_2) 2 dJ2_add_2_1 rfl rfl) ?_
  refine flp (go_aN (pc := 2) (Y := YJ2_add_2) dJ2_add_2_2) (fun v1 => ?_)
  refine b2g (fun s2 v3 he10 h11 => ?_)
  have hj11 : Go G YJ2_add_2 s0 sE none 11 [(0, rV (some this)), (1, rV p0), (2, rV v3), (3, iV p2)] [] s2 := by
    clear he10
    revert h11
    refine im (go_aload_n (pc := 11) (Y := YJ2_add_2) 2 dJ2_add_2_11 rfl rfl) ?_
    refine im (go_iload_n (pc := 12) (Y := YJ2_add_2) 3 dJ2_add_2_12 rfl rfl) ?_
    refine im (go_aload_n (pc := 13) (Y := YJ2_add_2) 1 dJ2_add_2_13 rfl rfl) ?_
    refine flp (go_tR (pc := 14) (Y := YJ2_add_2) dJ2_add_2_14) (fun s4 => ?_)
    refine im (go_aload_n (pc := 15) (Y := YJ2_add_2) 0 dJ2_add_2_15 rfl rfl) ?_
    refine im (go_iload_n (pc := 16) (Y := YJ2_add_2) 3 dJ2_add_2_16 rfl rfl) ?_
    refine im (go_iconst (pc := 17) (Y := YJ2_add_2) (v := 1) dJ2_add_2_17 rfl) ?_
    refine im (go_iadd (pc := 18) (Y := YJ2_add_2) dJ2_add_2_18) ?_
    refine flp (go_pI (pc := 19) (Y := YJ2_add_2) fF18 (by decide) q184 (Or.inl rfl) (Or.inl rfl) rfl rfl rfl dJ2_add_2_19) (fun s5 => ?_)
    refine e1 (fun q0 => ?_)
    subst q0
    exact go_vret (pc := 22) (Y := YJ2_add_2) rfl dJ2_add_2_22
  clear h11
  revert he10
  refine flp2 (go_icmp_ne (pc := 3) (Y := YJ2_add_2) 11 dJ2_add_2_3 (by decide)) ?_ ?_
  · refine im (go_aload_n (pc := 6) (Y := YJ2_add_2) 0 dJ2_add_2_6 rfl rfl) ?_
    refine kdg (fun k6 => ?_)
    refine bdg (fun s7 v8 he9 => ?_)
    refine im (go_callV (pc := 7) (Y := YJ2_add_2) (Yc := YJ2_grow) (y := yJ2_grow) (n := 0) (c0 := 1) (q := (RJ2, TJ2, 3)) this [] [] rfl rfl k6 (mJ2_grow s0 he9) YOK_J2_grow rfl q800 q132 q799 qs15 q797 (Nat.le_of_ble_eq_true rfl) (Nat.le_of_ble_eq_true rfl) (Nat.le_of_ble_eq_true rfl) dJ2_add_2_7 (st2 := [rV v8]) rfl) ?_
    clear he9
    refine im (go_astore_n (pc := 10) (Y := YJ2_add_2) (ls2 := [(2, rV v8), (0, rV (some this)), (1, rV p0), (3, iV p2)]) dJ2_add_2_10 rfl (Nat.le_of_ble_eq_true rfl) rfl) ?_
    refine e2 (fun q0 q1 => ?_)
    subst q0
    subst q1
    exact go_sub [1, 2, 0, 3] rfl hj11
  · refine e2 (fun q0 q1 => ?_)
    subst q0
    subst q1
    exact go_sub [0, 1, 2, 3] rfl hj11
abbrev YJ2_add : mY := (RJ2, cJ2_add, 2, (Option.some .boolean), 6, 136, false)
theorem YOK_J2_add : YOK yJ2_add 1 := ⟨⟨by decide +kernel, by decide +kernel⟩, by decide +kernel⟩
theorem mJ2_add {G : gG} (s0 : St) {this : Nat} {p0 : Option Nat} {sE : St} {vE : Int32} (h : sJ2_add s0 this p0 = some (sE, vE)) : Mt G YJ2_add yJ2_add [rV (some this), rV p0] s0 (some (iV vE)) sE := by
  refine go_start (ls0 := [(0, rV (some this)), (1, rV p0)]) (by decide +kernel) rfl (fun h => by cases h) (Nat.le_of_ble_eq_true rfl) rfl ?_
  revert h
  unfold sJ2_add
  refine im (go_aload_n (pc := 0) (Y := YJ2_add) 0 dJ2_add_0 rfl rfl) ?_
  refine im (go_dup (pc := 1) (Y := YJ2_add) dJ2_add_1 rfl) ?_
  refine flp (go_gI (pc := 2) (Y := YJ2_add) fF17 (by decide) q186 (Or.inr q187) dJ2_add_2) (fun v1 => ?_)
  refine im (go_iconst (pc := 5) (Y := YJ2_add) (v := 1) dJ2_add_5 rfl) ?_
  refine im (go_iadd (pc := 6) (Y := YJ2_add) dJ2_add_6) ?_
  refine flp (go_pI (pc := 7) (Y := YJ2_add) fF17 (by decide) q186 (Or.inr q187) (Or.inl rfl) rfl rfl rfl dJ2_add_7) (fun s2 => ?_)
  refine im (go_aload_n (pc := 10) (Y := YJ2_add) 0 dJ2_add_10 rfl rfl) ?_
  refine im (go_aload_n (pc := 11) (Y := YJ2_add) 1 dJ2_add_11 rfl rfl) ?_
  refine im (go_aload_n (pc := 12) (Y := YJ2_add) 0 dJ2_add_12 rfl rfl) ?_
  refine flp (go_gR (pc := 13) (Y := YJ2_add) fF1008 (by decide) q183 (Or.inl rfl) dJ2_add_13) (fun v3 => ?_)
  refine im (go_aload_n (pc := 16) (Y := YJ2_add) 0 dJ2_add_16 rfl rfl) ?_
  refine flp (go_gI (pc := 17) (Y := YJ2_add) fF18 (by decide) q184 (Or.inl rfl) dJ2_add_17) (fun v4 => ?_)
  refine kdg (fun k5 => ?_)
  refine bpg (fun s6 he7 => ?_)
  refine im (go_callV (pc := 20) (Y := YJ2_add) (Yc := YJ2_add_2) (y := yJ2_add_2) (n := 3) (c0 := 1) (q := (RJ2, TJ2, 3)) this [rV p0, rV v3, iV v4] [] rfl rfl k5 (mJ2_add_2 s2 he7) YOK_J2_add_2 rfl q796 q132 q795 qs14 q793 (Nat.le_of_ble_eq_true rfl) (Nat.le_of_ble_eq_true rfl) (Nat.le_of_ble_eq_true rfl) dJ2_add_20 (st2 := []) rfl) ?_
  clear he7
  refine im (go_iconst (pc := 23) (Y := YJ2_add) (v := 1) dJ2_add_23 rfl) ?_
  refine e2 (fun q0 q1 => ?_)
  subst q0
  subst q1
  exact go_zret (pc := 24) (Y := YJ2_add) rfl rfl dJ2_add_24
abbrev YJ2_isEmpty : mY := (RJ2, cJ2_isEmpty, 1, (Option.some .boolean), 0, 0, false)
theorem YOK_J2_isEmpty : YOK yJ2_isEmpty 0 := ⟨⟨by decide +kernel, by decide +kernel⟩, by decide +kernel⟩
theorem mJ2_isEmpty {G : gG} (s0 : St) {this : Nat} {vE : Int32} (h : sJ2_isEmpty s0 this = some vE) : Mt G YJ2_isEmpty yJ2_isEmpty [rV (some this)] s0 (some (iV vE)) s0 := by
  refine go_start (ls0 := [(0, rV (some this))]) (by decide +kernel) rfl (fun h => by cases h) (Nat.le_of_ble_eq_true rfl) rfl ?_
  revert h
  unfold sJ2_isEmpty
  refine im (go_aload_n (pc := 0) (Y := YJ2_isEmpty) 0 dJ2_isEmpty_0 rfl rfl) ?_
  refine flp (go_gI (pc := 1) (Y := YJ2_isEmpty) fF18 (by decide) q184 (Or.inl rfl) dJ2_isEmpty_1) (fun v1 => ?_)
  refine flp2 (go_if_ne (pc := 4) (Y := YJ2_isEmpty) 11 dJ2_isEmpty_4 (by decide)) ?_ ?_
  · refine im (go_iconst (pc := 7) (Y := YJ2_isEmpty) (v := 1) dJ2_isEmpty_7 rfl) ?_
    refine im (go_goto (pc := 8) (Y := YJ2_isEmpty) 12 dJ2_isEmpty_8 (by decide)) ?_
    refine e1 (fun q0 => ?_)
    subst q0
    exact go_zret (pc := 12) (Y := YJ2_isEmpty) rfl rfl dJ2_isEmpty_12
  · refine im (go_iconst (pc := 11) (Y := YJ2_isEmpty) (v := 0) dJ2_isEmpty_11 rfl) ?_
    refine e1 (fun q0 => ?_)
    subst q0
    exact go_zret (pc := 12) (Y := YJ2_isEmpty) rfl rfl dJ2_isEmpty_12
abbrev YJ2_clear : mY := (RJ2, cJ2_clear, 4, (Option.none : Option Jvm.ClassFile.FieldType), 0, 0, false)
theorem YOK_J2_clear : YOK yJ2_clear 0 := ⟨⟨by decide +kernel, by decide +kernel⟩, by decide +kernel⟩
theorem sJ2_clear_L27_go {G : gG} {s0 sE : St} {rE : Option V3} (i1 : Option Nat) (i2 : Int32) : ∀ (n : Nat) (s6 : St) (v7 : Int32) (s8 : St), sJ2_clear_L27 i1 i2 n s6 v7 = some s8 → Go G YJ2_clear s0 sE rE 42 [] [] s8 → Go G YJ2_clear s0 sE rE 27 [(1, rV i1), (2, iV i2), (3, iV v7)] [] s6 := by
  intro n
  induction n with
  | zero => intro s6 v7 s8 h hx; rw [sJ2_clear_L27] at h; cases h
  | succ n ih =>
    intro s6 v7 s8 h hx
    revert h
    rw [sJ2_clear_L27]
    refine im (go_iload_n (pc := 27) (Y := YJ2_clear) 2 dJ2_clear_27 rfl rfl) ?_
    refine im (go_iload_n (pc := 28) (Y := YJ2_clear) 1 dJ2_clear_28 rfl rfl) ?_
    refine flp2 (go_icmp_ge (pc := 29) (Y := YJ2_clear) 42 dJ2_clear_29 (by decide)) ?_ ?_
    · refine e1 (fun q0 => ?_)
      subst q0
      exact go_sub [] rfl hx
    · refine im (go_aload_n (pc := 32) (Y := YJ2_clear) 0 dJ2_clear_32 rfl rfl) ?_
      refine im (go_iload_n (pc := 33) (Y := YJ2_clear) 2 dJ2_clear_33 rfl rfl) ?_
      refine im (go_null (pc := 34) (Y := YJ2_clear) dJ2_clear_34) ?_
      refine flp (go_tR (pc := 35) (Y := YJ2_clear) dJ2_clear_35) (fun s9 => ?_)
      refine im (go_iinc (pc := 36) (Y := YJ2_clear) 2 (v := (v7 + 1)) (ls2 := [(3, iV (v7 + 1)), (1, rV i1), (2, iV i2)]) dJ2_clear_36 rfl rfl (Nat.le_of_ble_eq_true rfl) rfl) ?_
      refine im (go_goto (pc := 39) (Y := YJ2_clear) 27 dJ2_clear_39 (by decide)) ?_
      exact fun hq => go_sub [1, 2, 0] rfl (ih _ _ _ hq hx)
theorem mJ2_clear {G : gG} (s0 : St) {this : Nat} {sE : St} (h : sJ2_clear s0 this = some sE) : Mt G YJ2_clear yJ2_clear [rV (some this)] s0 none sE := by
  refine go_start (ls0 := [(0, rV (some this))]) (by decide +kernel) rfl (fun h => by cases h) (Nat.le_of_ble_eq_true rfl) rfl ?_
  revert h
  unfold sJ2_clear
  refine im (go_aload_n (pc := 0) (Y := YJ2_clear) 0 dJ2_clear_0 rfl rfl) ?_
  refine im (go_dup (pc := 1) (Y := YJ2_clear) dJ2_clear_1 rfl) ?_
  refine flp (go_gI (pc := 2) (Y := YJ2_clear) fF17 (by decide) q186 (Or.inr q187) dJ2_clear_2) (fun v1 => ?_)
  refine im (go_iconst (pc := 5) (Y := YJ2_clear) (v := 1) dJ2_clear_5 rfl) ?_
  refine im (go_iadd (pc := 6) (Y := YJ2_clear) dJ2_clear_6) ?_
  refine flp (go_pI (pc := 7) (Y := YJ2_clear) fF17 (by decide) q186 (Or.inr q187) (Or.inl rfl) rfl rfl rfl dJ2_clear_7) (fun s2 => ?_)
  refine im (go_aload_n (pc := 10) (Y := YJ2_clear) 0 dJ2_clear_10 rfl rfl) ?_
  refine flp (go_gR (pc := 11) (Y := YJ2_clear) fF1008 (by decide) q183 (Or.inl rfl) dJ2_clear_11) (fun v3 => ?_)
  refine im (go_astore_n (pc := 14) (Y := YJ2_clear) (ls2 := [(1, rV v3), (0, rV (some this))]) dJ2_clear_14 rfl (Nat.le_of_ble_eq_true rfl) rfl) ?_
  refine im (go_aload_n (pc := 15) (Y := YJ2_clear) 1 dJ2_clear_15 rfl rfl) ?_
  refine flp (go_gI (pc := 16) (Y := YJ2_clear) fF18 (by decide) q184 (Or.inl rfl) dJ2_clear_16) (fun v4 => ?_)
  refine im (go_istore_n (pc := 19) (Y := YJ2_clear) (ls2 := [(2, iV v4), (1, rV v3), (0, rV (some this))]) dJ2_clear_19 rfl (Nat.le_of_ble_eq_true rfl) rfl) ?_
  refine im (go_aload_n (pc := 20) (Y := YJ2_clear) 2 dJ2_clear_20 rfl rfl) ?_
  refine im (go_iconst (pc := 21) (Y := YJ2_clear) (v := 0) dJ2_clear_21 rfl) ?_
  refine im (go_dup_x1 (pc := 22) (Y := YJ2_clear) dJ2_clear_22 rfl rfl) ?_
  refine flp (go_pI (pc := 23) (Y := YJ2_clear) fF18 (by decide) q184 (Or.inl rfl) (Or.inl rfl) rfl rfl rfl dJ2_clear_23) (fun s5 => ?_)
  refine im (go_istore_n (pc := 26) (Y := YJ2_clear) (ls2 := [(3, iV 0), (2, iV v4), (1, rV v3), (0, rV (some this))]) dJ2_clear_26 rfl (Nat.le_of_ble_eq_true rfl) rfl) ?_
  refine bpg (fun s10 he11 h12 => ?_)
  refine go_sub [2, 1, 0] rfl (sJ2_clear_L27_go v3 v4 FU _ _ _ he11 ?_)
  clear he11
  revert h12
  refine e1 (fun q0 => ?_)
  subst q0
  exact go_vret (pc := 42) (Y := YJ2_clear) rfl dJ2_clear_42
abbrev YJ5_coder : mY := (RJ5, cJ5_coder, 1, (Option.some .byte), 0, 0, false)
theorem YOK_J5_coder : YOK yJ5_coder 0 := ⟨⟨by decide +kernel, by decide +kernel⟩, by decide +kernel⟩
theorem mJ5_coder {G : gG} (s0 : St) {this : Nat} {vE : Int32} (h : sJ5_coder s0 this = some vE) : Mt G YJ5_coder yJ5_coder [rV (some this)] s0 (some (iV vE)) s0 := by
  refine go_start (ls0 := [(0, rV (some this))]) (by decide +kernel) rfl (fun h => by cases h) (Nat.le_of_ble_eq_true rfl) rfl ?_
  revert h
  unfold sJ5_coder
  refine im (go_gsI (pc := 0) (Y := YJ5_coder) (v := 1) (O := "java/lang/String") (f := "COMPACT_STRINGS") (d := "Z") (by decide +kernel) q563 rfl dJ5_coder_0) ?_
  refine flp2 (go_if_eq (pc := 3) (Y := YJ5_coder) 13 dJ5_coder_3 (by decide)) ?_ ?_
  · refine im (go_iconst (pc := 13) (Y := YJ5_coder) (v := 1) dJ5_coder_13 rfl) ?_
    refine e1 (fun q0 => ?_)
    subst q0
    exact go_zret (pc := 14) (Y := YJ5_coder) rfl rfl dJ5_coder_14
  · refine im (go_aload_n (pc := 6) (Y := YJ5_coder) 0 dJ5_coder_6 rfl rfl) ?_
    refine flp (go_gI (pc := 7) (Y := YJ5_coder) fF60 (by decide) q578 (Or.inl rfl) dJ5_coder_7) (fun v1 => ?_)
    refine im (go_goto (pc := 10) (Y := YJ5_coder) 14 dJ5_coder_10 (by decide)) ?_
    refine okg (fun z2 => ?_)
    refine e1 (fun q0 => ?_)
    subst q0
    exact go_zret (pc := 14) (Y := YJ5_coder) rfl (okB_nar2 z2).1 dJ5_coder_14
abbrev YJ5_length : mY := (RJ5, cJ5_length, 1, (Option.some .int), 1, 20, false)
theorem YOK_J5_length : YOK yJ5_length 0 := ⟨⟨by decide +kernel, by decide +kernel⟩, by decide +kernel⟩
theorem mJ5_length {G : gG} (s0 : St) {this : Nat} {vE : Int32} (h : sJ5_length s0 this = some vE) : Mt G YJ5_length yJ5_length [rV (some this)] s0 (some (iV vE)) s0 := by
  refine go_start (ls0 := [(0, rV (some this))]) (by decide +kernel) rfl (fun h => by cases h) (Nat.le_of_ble_eq_true rfl) rfl ?_
  revert h
  unfold sJ5_length
  refine im (go_aload_n (pc := 0) (Y := YJ5_length) 0 dJ5_length_0 rfl rfl) ?_
  refine flp (go_gR (pc := 1) (Y := YJ5_length) fF1031 (by decide) q577 (Or.inl rfl) dJ5_length_1) (fun v1 => ?_)
  refine flp (go_aN (pc := 4) (Y := YJ5_length) dJ5_length_4) (fun v2 => ?_)
  refine im (go_aload_n (pc := 5) (Y := YJ5_length) 0 dJ5_length_5 rfl rfl) ?_
  refine kdg (fun k3 => ?_)
  refine bpg (fun v4 he5 => ?_)
  refine im (go_callV (pc := 6) (Y := YJ5_length) (Yc := YJ5_coder) (y := yJ5_coder) (n := 0) (c0 := 8) (q := (RJ5, TJ5, 4)) this [] [iV v2] rfl rfl k3 (mJ5_coder s0 he5) YOK_J5_coder rfl q1798 q140 q1796 q1797 q1795 (Nat.le_of_ble_eq_true rfl) (Nat.le_of_ble_eq_true rfl) (Nat.le_of_ble_eq_true rfl) dJ5_length_6 (st2 := [iV v4, iV v2]) rfl) ?_
  clear he5
  refine im (go_ishr (pc := 9) (Y := YJ5_length) dJ5_length_9) ?_
  refine e1 (fun q0 => ?_)
  subst q0
  exact go_iret (pc := 10) (Y := YJ5_length) rfl dJ5_length_10
abbrev YJ5_checkIndex : mY := (RJ5, cJ5_checkIndex, 2, (Option.none : Option Jvm.ClassFile.FieldType), 1, 22, false)
theorem YOK_J5_checkIndex : YOK yJ5_checkIndex 2 := ⟨⟨by decide +kernel, by decide +kernel⟩, by decide +kernel⟩
theorem mJ5_checkIndex {G : gG} (s0 : St) {p0 : Int32} {p1 : Int32} (h : sJ5_checkIndex s0 p0 p1 = some ()) : Mt G YJ5_checkIndex yJ5_checkIndex [iV p0, iV p1] s0 none s0 := by
  refine go_start (ls0 := [(0, iV p0), (1, iV p1)]) (by decide +kernel) rfl (fun h => by cases h) (Nat.le_of_ble_eq_true rfl) rfl ?_
  revert h
  unfold sJ5_checkIndex
  refine im (go_iload_n (pc := 0) (Y := YJ5_checkIndex) 0 dJ5_checkIndex_0 rfl rfl) ?_
  refine im (go_iload_n (pc := 1) (Y := YJ5_checkIndex) 1 dJ5_checkIndex_1 rfl rfl) ?_
  refine im (go_gsR (pc := 2) (Y := YJ5_checkIndex) (i := 61) (O := "jdk/internal/util/Preconditions") (f := "SIOOBE_FORMATTER") (d := "Ljava/util/function/BiFunction;") (by decide +kernel) q501 rfl dJ5_checkIndex_2) ?_
  refine bpg (fun v1 he2 => ?_)
  refine im (go_callS (pc := 5) (Y := YJ5_checkIndex) (Yc := YJ11_checkIndex) (y := yJ11_checkIndex) (n := 3) [iV p0, iV p1, rV (s0.ks 61)] [] rfl (mJ11_checkIndex s0 he2) YOK_J11_checkIndex rfl q526 q147 q525 q524 (Nat.le_of_ble_eq_true rfl) (Nat.le_of_ble_eq_true rfl) (Nat.le_of_ble_eq_true rfl) dJ5_checkIndex_5 (st2 := [iV v1]) rfl) ?_
  clear he2
  refine im (go_pop (pc := 8) (Y := YJ5_checkIndex) dJ5_checkIndex_8 rfl) ?_
  intro _
  exact go_vret (pc := 9) (Y := YJ5_checkIndex) rfl dJ5_checkIndex_9
abbrev YJ10_charAt : mY := (RJ10, cJ10_charAt, 2, (Option.some .char), 2, 43, false)
theorem YOK_J10_charAt : YOK yJ10_charAt 2 := ⟨⟨by decide +kernel, by decide +kernel⟩, by decide +kernel⟩
theorem mJ10_charAt {G : gG} (s0 : St) {p0 : Option Nat} {p1 : Int32} {vE : Int32} (h : sJ10_charAt s0 p0 p1 = some vE) : Mt G YJ10_charAt yJ10_charAt [rV p0, iV p1] s0 (some (iV vE)) s0 := by
  refine go_start (ls0 := [(0, rV p0), (1, iV p1)]) (by decide +kernel) rfl (fun h => by cases h) (Nat.le_of_ble_eq_true rfl) rfl ?_
  revert h
  unfold sJ10_charAt
  refine im (go_iload_n (pc := 0) (Y := YJ10_charAt) 1 dJ10_charAt_0 rfl rfl) ?_
  refine im (go_aload_n (pc := 1) (Y := YJ10_charAt) 0 dJ10_charAt_1 rfl rfl) ?_
  refine flp (go_aN (pc := 2) (Y := YJ10_charAt) dJ10_charAt_2) (fun v1 => ?_)
  refine bpg (fun u5 he2 => ?_)
  refine im (go_callS (pc := 3) (Y := YJ10_charAt) (Yc := YJ5_checkIndex) (y := yJ5_checkIndex) (n := 2) [iV p1, iV v1] [] rfl (mJ5_checkIndex s0 he2) YOK_J5_checkIndex rfl q523 q140 q522 q1806 (Nat.le_of_ble_eq_true rfl) (Nat.le_of_ble_eq_true rfl) (Nat.le_of_ble_eq_true rfl) dJ10_charAt_3 (st2 := []) rfl) ?_
  clear he2
  refine im (go_aload_n (pc := 6) (Y := YJ10_charAt) 0 dJ10_charAt_6 rfl rfl) ?_
  refine im (go_iload_n (pc := 7) (Y := YJ10_charAt) 1 dJ10_charAt_7 rfl rfl) ?_
  refine flp (go_lI2 (pc := 8) (Y := YJ10_charAt) dJ10_charAt_8) (fun v3 => ?_)
  refine im (go_sipush (pc := 9) (Y := YJ10_charAt) (v := 255) dJ10_charAt_9 rfl) ?_
  refine im (go_iand (pc := 12) (Y := YJ10_charAt) dJ10_charAt_12) ?_
  refine im (go_i2c (pc := 13) (Y := YJ10_charAt) dJ10_charAt_13) ?_
  refine okg (fun z4 => ?_)
  refine e1 (fun q0 => ?_)
  subst q0
  exact go_zret (pc := 14) (Y := YJ10_charAt) rfl (okC_nar z4) dJ10_charAt_14
abbrev YJ5_charAt : mY := (RJ5, cJ5_charAt, 2, (Option.some .char), 3, 64, false)
theorem YOK_J5_charAt : YOK yJ5_charAt 1 := ⟨⟨by decide +kernel, by decide +kernel⟩, by decide +kernel⟩
theorem mJ5_charAt {G : gG} (s0 : St) {this : Nat} {p0 : Int32} {vE : Int32} (h : sJ5_charAt s0 this p0 = some vE) : Mt G YJ5_charAt yJ5_charAt [rV (some this), iV p0] s0 (some (iV vE)) s0 := by
  refine go_start (ls0 := [(0, rV (some this)), (1, iV p0)]) (by decide +kernel) rfl (fun h => by cases h) (Nat.le_of_ble_eq_true rfl) rfl ?_
  revert h
  unfold sJ5_charAt
  refine im (go_aload_n (pc := 0) (Y := YJ5_charAt) 0 dJ5_charAt_0 rfl rfl) ?_
  refine kdg (fun k1 => ?_)
  refine bpg (fun v2 he3 => ?_)
  refine im (go_callV (pc := 1) (Y := YJ5_charAt) (Yc := YJ5_isLatin1) (y := yJ5_isLatin1) (n := 0) (c0 := 8) (q := (RJ5, TJ5, 4)) this [] [] rfl rfl k1 (mJ5_isLatin1 s0 he3) YOK_J5_isLatin1 rfl q624 q140 q622 q623 q621 (Nat.le_of_ble_eq_true rfl) (Nat.le_of_ble_eq_true rfl) (Nat.le_of_ble_eq_true rfl) dJ5_charAt_1 (st2 := [iV v2]) rfl) ?_
  clear he3
  refine flp2 (go_if_eq (pc := 4) (Y := YJ5_charAt) 16 dJ5_charAt_4 (by decide)) ?_ ?_
  · exact nog
  · refine im (go_aload_n (pc := 7) (Y := YJ5_charAt) 0 dJ5_charAt_7 rfl rfl) ?_
    refine flp (go_gR (pc := 8) (Y := YJ5_charAt) fF1031 (by decide) q577 (Or.inl rfl) dJ5_charAt_8) (fun v4 => ?_)
    refine im (go_iload_n (pc := 11) (Y := YJ5_charAt) 1 dJ5_charAt_11 rfl rfl) ?_
    refine bpg (fun v5 he6 => ?_)
    refine im (go_callS (pc := 12) (Y := YJ5_charAt) (Yc := YJ10_charAt) (y := yJ10_charAt) (n := 2) [rV v4, iV p0] [] rfl (mJ10_charAt s0 he6) YOK_J10_charAt rfl q1805 q146 q1804 q1803 (Nat.le_of_ble_eq_true rfl) (Nat.le_of_ble_eq_true rfl) (Nat.le_of_ble_eq_true rfl) dJ5_charAt_12 (st2 := [iV v5]) rfl) ?_
    clear he6
    refine okg (fun z7 => ?_)
    refine e1 (fun q0 => ?_)
    subst q0
    exact go_zret (pc := 15) (Y := YJ5_charAt) rfl (okC_nar z7) dJ5_charAt_15
abbrev YX1_has : mY := (RX1, cX1_has, 2, (Option.some .boolean), 0, 0, false)
theorem YOK_X1_has : YOK yX1_has 2 := ⟨⟨by decide +kernel, by decide +kernel⟩, by decide +kernel⟩
theorem mX1_has {G : gG} (s0 : St) {p0 : Int32} {p1 : Int32} {vE : Int32} (h : sX1_has s0 p0 p1 = some vE) : Mt G YX1_has yX1_has [iV p0, iV p1] s0 (some (iV vE)) s0 := by
  refine go_start (ls0 := [(0, iV p0), (1, iV p1)]) (by decide +kernel) rfl (fun h => by cases h) (Nat.le_of_ble_eq_true rfl) rfl ?_
  revert h
  unfold sX1_has
  refine im (go_iload_n (pc := 0) (Y := YX1_has) 0 dX1_has_0 rfl rfl) ?_
  refine im (go_iload_n (pc := 1) (Y := YX1_has) 1 dX1_has_1 rfl rfl) ?_
  refine im (go_ishr (pc := 2) (Y := YX1_has) dX1_has_2) ?_
  refine im (go_iconst (pc := 3) (Y := YX1_has) (v := 1) dX1_has_3 rfl) ?_
  refine im (go_iand (pc := 4) (Y := YX1_has) dX1_has_4) ?_
  refine im (go_iconst (pc := 5) (Y := YX1_has) (v := 1) dX1_has_5 rfl) ?_
  refine flp2 (go_icmp_ne (pc := 6) (Y := YX1_has) 13 dX1_has_6 (by decide)) ?_ ?_
  · refine im (go_iconst (pc := 9) (Y := YX1_has) (v := 1) dX1_has_9 rfl) ?_
    refine im (go_goto (pc := 10) (Y := YX1_has) 14 dX1_has_10 (by decide)) ?_
    refine e1 (fun q0 => ?_)
    subst q0
    exact go_zret (pc := 14) (Y := YX1_has) rfl rfl dX1_has_14
  · refine im (go_iconst (pc := 13) (Y := YX1_has) (v := 0) dX1_has_13 rfl) ?_
    refine e1 (fun q0 => ?_)
    subst q0
    exact go_zret (pc := 14) (Y := YX1_has) rfl rfl dX1_has_14
abbrev YJ2_fastRemove : mY := (RJ2, cJ2_fastRemove, 4, (Option.none : Option Jvm.ClassFile.FieldType), 1, 26, false)
theorem YOK_J2_fastRemove : YOK yJ2_fastRemove 2 := ⟨⟨by decide +kernel, by decide +kernel⟩, by decide +kernel⟩
theorem mJ2_fastRemove {G : gG} (s0 : St) {this : Nat} {p0 : Option Nat} {p1 : Int32} {sE : St} (h : sJ2_fastRemove s0 this p0 p1 = some sE) : Mt G YJ2_fastRemove yJ2_fastRemove [rV (some this), rV p0, iV p1] s0 none sE := by
  refine go_start (ls0 := [(0, rV (some this)), (1, rV p0), (2, iV p1)]) (by decide +kernel) rfl (fun h => by cases h) (Nat.le_of_ble_eq_true rfl) rfl ?_
  revert h
  unfold sJ2_fastRemove
  refine im (go_aload_n (pc := 0) (Y := YJ2_fastRemove) 0 dJ2_fastRemove_0 rfl rfl) ?_
  refine im (go_dup (pc := 1) (Y := YJ2_fastRemove) dJ2_fastRemove_1 rfl) ?_
  refine flp (go_gI (pc := 2) (Y := YJ2_fastRemove) fF17 (by decide) q186 (Or.inr q187) dJ2_fastRemove_2) (fun v1 => ?_)
  refine im (go_iconst (pc := 5) (Y := YJ2_fastRemove) (v := 1) dJ2_fastRemove_5 rfl) ?_
  refine im (go_iadd (pc := 6) (Y := YJ2_fastRemove) dJ2_fastRemove_6) ?_
  refine flp (go_pI (pc := 7) (Y := YJ2_fastRemove) fF17 (by decide) q186 (Or.inr q187) (Or.inl rfl) rfl rfl rfl dJ2_fastRemove_7) (fun s2 => ?_)
  refine im (go_aload_n (pc := 10) (Y := YJ2_fastRemove) 0 dJ2_fastRemove_10 rfl rfl) ?_
  refine flp (go_gI (pc := 11) (Y := YJ2_fastRemove) fF18 (by decide) q184 (Or.inl rfl) dJ2_fastRemove_11) (fun v3 => ?_)
  refine im (go_iconst (pc := 14) (Y := YJ2_fastRemove) (v := 1) dJ2_fastRemove_14 rfl) ?_
  refine im (go_isub (pc := 15) (Y := YJ2_fastRemove) dJ2_fastRemove_15) ?_
  refine im (go_dup (pc := 16) (Y := YJ2_fastRemove) dJ2_fastRemove_16 rfl) ?_
  refine im (go_istore_n (pc := 17) (Y := YJ2_fastRemove) (ls2 := [(3, iV (v3 - 1)), (0, rV (some this)), (1, rV p0), (2, iV p1)]) dJ2_fastRemove_17 rfl (Nat.le_of_ble_eq_true rfl) rfl) ?_
  refine im (go_iload_n (pc := 18) (Y := YJ2_fastRemove) 3 dJ2_fastRemove_18 rfl rfl) ?_
  refine bpg (fun s4 he8 h9 => ?_)
  have hj34 : Go G YJ2_fastRemove s0 sE none 34 [(0, rV (some this)), (1, rV p0), (3, iV (v3 - 1))] [] s4 := by
    clear he8
    revert h9
    refine im (go_aload_n (pc := 34) (Y := YJ2_fastRemove) 1 dJ2_fastRemove_34 rfl rfl) ?_
    refine im (go_aload_n (pc := 35) (Y := YJ2_fastRemove) 0 dJ2_fastRemove_35 rfl rfl) ?_
    refine im (go_iload_n (pc := 36) (Y := YJ2_fastRemove) 2 dJ2_fastRemove_36 rfl rfl) ?_
    refine im (go_dup_x1 (pc := 37) (Y := YJ2_fastRemove) dJ2_fastRemove_37 rfl rfl) ?_
    refine flp (go_pI (pc := 38) (Y := YJ2_fastRemove) fF18 (by decide) q184 (Or.inl rfl) (Or.inl rfl) rfl rfl rfl dJ2_fastRemove_38) (fun s5 => ?_)
    refine im (go_null (pc := 41) (Y := YJ2_fastRemove) dJ2_fastRemove_41) ?_
    refine flp (go_tR (pc := 42) (Y := YJ2_fastRemove) dJ2_fastRemove_42) (fun s6 => ?_)
    refine e1 (fun q0 => ?_)
    subst q0
    exact go_vret (pc := 43) (Y := YJ2_fastRemove) rfl dJ2_fastRemove_43
  clear h9
  revert he8
  refine flp2 (go_icmp_le (pc := 19) (Y := YJ2_fastRemove) 34 dJ2_fastRemove_19 (by decide)) ?_ ?_
  · refine e1 (fun q0 => ?_)
    subst q0
    exact go_sub [1, 2, 0] rfl hj34
  · refine im (go_aload_n (pc := 22) (Y := YJ2_fastRemove) 2 dJ2_fastRemove_22 rfl rfl) ?_
    refine im (go_iload_n (pc := 23) (Y := YJ2_fastRemove) 3 dJ2_fastRemove_23 rfl rfl) ?_
    refine im (go_iconst (pc := 24) (Y := YJ2_fastRemove) (v := 1) dJ2_fastRemove_24 rfl) ?_
    refine im (go_iadd (pc := 25) (Y := YJ2_fastRemove) dJ2_fastRemove_25) ?_
    refine im (go_aload_n (pc := 26) (Y := YJ2_fastRemove) 2 dJ2_fastRemove_26 rfl rfl) ?_
    refine im (go_iload_n (pc := 27) (Y := YJ2_fastRemove) 3 dJ2_fastRemove_27 rfl rfl) ?_
    refine im (go_iload_n (pc := 28) (Y := YJ2_fastRemove) 0 dJ2_fastRemove_28 rfl rfl) ?_
    refine im (go_iload_n (pc := 29) (Y := YJ2_fastRemove) 3 dJ2_fastRemove_29 rfl rfl) ?_
    refine im (go_isub (pc := 30) (Y := YJ2_fastRemove) dJ2_fastRemove_30) ?_
    refine flp (go_cpR (pc := 31) (Y := YJ2_fastRemove) q1515 q473 q472 q145 (Nat.le_of_ble_eq_true rfl) (Nat.le_of_ble_eq_true rfl) dJ2_fastRemove_31) (fun s7 => ?_)
    refine e1 (fun q0 => ?_)
    subst q0
    exact go_sub [1, 2, 0] rfl hj34
abbrev YJ2_remove : mY := (RJ2, cJ2_remove, 4, (Option.some (.object "java/lang/Object")), 2, 49, false)
theorem YOK_J2_remove : YOK yJ2_remove 1 := ⟨⟨by decide +kernel, by decide +kernel⟩, by decide +kernel⟩
theorem mJ2_remove {G : gG} (s0 : St) {this : Nat} {p0 : Int32} {sE : St} {vE : Option Nat} (h : sJ2_remove s0 this p0 = some (sE, vE)) : Mt G YJ2_remove yJ2_remove [rV (some this), iV p0] s0 (some (rV vE)) sE := by
  refine go_start (ls0 := [(0, rV (some this)), (1, iV p0)]) (by decide +kernel) rfl (fun h => by cases h) (Nat.le_of_ble_eq_true rfl) rfl ?_
  revert h
  unfold sJ2_remove
  refine im (go_iload_n (pc := 0) (Y := YJ2_remove) 1 dJ2_remove_0 rfl rfl) ?_
  refine im (go_aload_n (pc := 1) (Y := YJ2_remove) 0 dJ2_remove_1 rfl rfl) ?_
  refine flp (go_gI (pc := 2) (Y := YJ2_remove) fF18 (by decide) q184 (Or.inl rfl) dJ2_remove_2) (fun v1 => ?_)
  refine bpg (fun v2 he3 => ?_)
  refine im (go_callS (pc := 5) (Y := YJ2_remove) (Yc := YJ12_checkIndex) (y := yJ12_checkIndex) (n := 2) [iV p0, iV v1] [] rfl (mJ12_checkIndex s0 he3) YOK_J12_checkIndex rfl q772 q149 q771 q770 (Nat.le_of_ble_eq_true rfl) (Nat.le_of_ble_eq_true rfl) (Nat.le_of_ble_eq_true rfl) dJ2_remove_5 (st2 := [iV v2]) rfl) ?_
  clear he3
  refine im (go_pop (pc := 8) (Y := YJ2_remove) dJ2_remove_8 rfl) ?_
  refine im (go_aload_n (pc := 9) (Y := YJ2_remove) 0 dJ2_remove_9 rfl rfl) ?_
  refine flp (go_gR (pc := 10) (Y := YJ2_remove) fF1008 (by decide) q183 (Or.inl rfl) dJ2_remove_10) (fun v4 => ?_)
  refine im (go_astore_n (pc := 13) (Y := YJ2_remove) (ls2 := [(2, rV v4), (0, rV (some this)), (1, iV p0)]) dJ2_remove_13 rfl (Nat.le_of_ble_eq_true rfl) rfl) ?_
  refine im (go_aload_n (pc := 14) (Y := YJ2_remove) 0 dJ2_remove_14 rfl rfl) ?_
  refine im (go_iload_n (pc := 15) (Y := YJ2_remove) 2 dJ2_remove_15 rfl rfl) ?_
  refine flp (go_lR (pc := 16) (Y := YJ2_remove) dJ2_remove_16) (fun v5 => ?_)
  refine im (go_astore_n (pc := 17) (Y := YJ2_remove) (ls2 := [(3, rV v5), (2, rV v4), (0, rV (some this)), (1, iV p0)]) dJ2_remove_17 rfl (Nat.le_of_ble_eq_true rfl) rfl) ?_
  refine im (go_aload_n (pc := 18) (Y := YJ2_remove) 2 dJ2_remove_18 rfl rfl) ?_
  refine im (go_aload_n (pc := 19) (Y := YJ2_remove) 1 dJ2_remove_19 rfl rfl) ?_
  refine im (go_iload_n (pc := 20) (Y := YJ2_remove) 3 dJ2_remove_20 rfl rfl) ?_
  refine kdg (fun k6 => ?_)
  refine bpg (fun s7 he8 => ?_)
  refine im (go_callV (pc := 21) (Y := YJ2_remove) (Yc := YJ2_fastRemove) (y := yJ2_fastRemove) (n := 2) (c0 := 1) (q := (RJ2, TJ2, 3)) this [rV v4, iV p0] [] rfl rfl k6 (mJ2_fastRemove s0 he8) YOK_J2_fastRemove rfl q1514 q132 q1513 qs63 q1511 (Nat.le_of_ble_eq_true rfl) (Nat.le_of_ble_eq_true rfl) (Nat.le_of_ble_eq_true rfl) dJ2_remove_21 (st2 := []) rfl) ?_
  clear he8
  refine im (go_aload_n (pc := 24) (Y := YJ2_remove) 0 dJ2_remove_24 rfl rfl) ?_
  refine e2 (fun q0 q1 => ?_)
  subst q0
  subst q1
  exact go_aret (pc := 25) (Y := YJ2_remove) rfl (Or.inl ⟨_, rfl⟩) dJ2_remove_25
