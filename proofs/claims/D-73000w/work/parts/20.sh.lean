/-! THE SHALLOW FUNCTIONS: what each method does to St (by gen/mkwalk.py out of the bytecode) -/
set_option maxRecDepth 100000
def sJ1_init (s0 : St) (this : Nat) : Option St :=
    pI s0 17 (some this) 0 fun s2 =>
    some s2
def sJ2_init (s0 : St) (this : Nat) : Option St :=
    bp (sJ1_init s0 this) fun s1 =>
    pR s1 1008 (some this) (s1.ks 60) fun s3 =>
    some s3
def sX1_init (s0 : St) (this : Nat) : Option St :=
    nwA s0 2 900 fun s1 a2 =>
    pR s1 1000 (some this) (some a2) fun s3 =>
    pI s3 2 (some this) (-1) fun s4 =>
    nwO s4 6 3 fun s5 a6 =>
    bp (sJ2_init s5 a6) fun s7 =>
    pR s7 1004 (some this) (some a6) fun s9 =>
    nwO s9 6 3 fun s10 a11 =>
    bp (sJ2_init s10 a11) fun s12 =>
    pR s12 1005 (some this) (some a11) fun s14 =>
    pI s14 4 (some this) (-1) fun s15 =>
    nwA s15 1 4 fun s16 a17 =>
    pR s16 1006 (some this) (some a17) fun s18 =>
    nwA s18 3 3 fun s19 a20 =>
    pR s19 1007 (some this) (some a20) fun s21 =>
    some s21
def sX2_init (s0 : St) (this : Nat) : Option St :=
    nwA s0 1 900 fun s1 a2 =>
    pR s1 1009 (some this) (some a2) fun s3 =>
    pI s3 28 (some this) (-1) fun s4 =>
    nwA s4 1 8 fun s5 a6 =>
    pR s5 1010 (some this) (some a6) fun s7 =>
    nwA s7 1 241 fun s8 a9 =>
    pR s8 1011 (some this) (some a9) fun s10 =>
    nwA s10 1 241 fun s11 a12 =>
    pR s11 1012 (some this) (some a12) fun s13 =>
    nwA s13 1 8 fun s14 a15 =>
    pR s14 1013 (some this) (some a15) fun s16 =>
    nwA s16 1 128 fun s17 a18 =>
    pR s17 1014 (some this) (some a18) fun s19 =>
    nwA s19 1 24 fun s20 a21 =>
    pR s20 1015 (some this) (some a21) fun s22 =>
    nwA s22 1 8 fun s23 a24 =>
    pR s23 1016 (some this) (some a24) fun s25 =>
    nwA s25 1 6 fun s26 a27 =>
    pR s26 1017 (some this) (some a27) fun s28 =>
    nwA s28 1 6 fun s29 a30 =>
    pR s29 1018 (some this) (some a30) fun s31 =>
    nwA s31 1 4 fun s32 a33 =>
    pR s32 1019 (some this) (some a33) fun s34 =>
    some s34
def sX1_feed_L18 (this : Nat) (i1 : Int32) (i2 : Int32) (i3 : Int32) (i4 : Int32) (i5 : Int32) : Nat → St → Int32 → Option (St)
  | 0, _, _ => none
  | n + 1, s2, v3 =>
    if 20 ≤ v3 then
    (some s2)
    else
    (bp (
    if 4 ≤ v3 then
    (if 8 ≤ v3 then
    (if 12 ≤ v3 then
    (if 16 ≤ v3 then
    (some i5)
    else
    (some i4))
    else
    (some i3))
    else
    (some i2))
    else
    (some i1)) fun (v5 : Int32) =>
    gR s2 1000 (some this) fun v6 =>
    gI s2 0 (some this) fun v7 =>
    dzI (4 : Int32) <|
    tB s2 v6 (v7 + v3) ((Int32.toInt8 ((Int32.toUInt32 v5 >>> (Int32.toUInt32 (24 - (8 * (v3 - v3 / 4 * 4))) &&& Int32.toUInt32 31)).toInt32)).toInt32) fun s8 =>
    sX1_feed_L18 this i1 i2 i3 i4 i5 n s8 (v3 + 1))
def sX1_feed (s0 : St) (this : Nat) (p0 : Int32) (p1 : Int32) (p2 : Int32) (p3 : Int32) (p4 : Int32) : Option (St × Int32) :=
    gI s0 0 (some this) fun v1 =>
    if (v1 + 20) ≤ 900 then
    (bp (sX1_feed_L18 this p0 p1 p2 p3 p4 FU s0 0) fun (s11 : St) =>
    gI s11 0 (some this) fun v12 =>
    pI s11 0 (some this) (v12 + 20) fun s13 =>
    gI s13 0 (some this) fun v14 =>
    some (s13, v14))
    else
    (some (s0, (-1)))
def sX2_feed_L23 (this : Nat) (i1 : Int32) (i2 : Int32) (i3 : Int32) (i4 : Int32) (i5 : Int32) : Nat → St → Int32 → Option (St)
  | 0, _, _ => none
  | n + 1, s3, v4 =>
    if 20 ≤ v4 then
    (some s3)
    else
    (bp (
    if 4 ≤ v4 then
    (if 8 ≤ v4 then
    (if 12 ≤ v4 then
    (if 16 ≤ v4 then
    (some i5)
    else
    (some i4))
    else
    (some i3))
    else
    (some i2))
    else
    (some i1)) fun (v6 : Int32) =>
    gR s3 1009 (some this) fun v7 =>
    gI s3 20 (some this) fun v8 =>
    dzI (4 : Int32) <|
    tI s3 v7 v8 ((v6 >>> ((24 - (8 * (v4 - v4 / 4 * 4))) &&& 31)) &&& 255) fun s9 =>
    gI s9 20 (some this) fun v10 =>
    pI s9 20 (some this) (v10 + 1) fun s11 =>
    sX2_feed_L23 this i1 i2 i3 i4 i5 n s11 (v4 + 1))
def sX2_feed (s0 : St) (this : Nat) (p0 : Int32) (p1 : Int32) (p2 : Int32) (p3 : Int32) (p4 : Int32) : Option (St × Int32) :=
    pI s0 19 (some this) 0 fun s1 =>
    gI s1 20 (some this) fun v2 =>
    if (v2 + 20) ≤ 900 then
    (bp (sX2_feed_L23 this p0 p1 p2 p3 p4 FU s1 0) fun (s14 : St) =>
    gI s14 20 (some this) fun v15 =>
    some (s14, v15))
    else
    (some (s1, (-1)))
def sX1_in (s0 : St) (p0 : Int32) (p1 : Int32) (p2 : Int32) : Option Int32 :=
    if p0 < p1 then
    (some 0)
    else
    (if p2 < p0 then
    (some 0)
    else
    (some 1))
def sX1_refused (s0 : St) (this : Nat) (p0 : Int32) : Option (St × Int32) :=
    pI s0 3 (some this) p0 fun s1 =>
    pI s1 2 (some this) (-1) fun s2 =>
    some (s2, (-1))
def sX4_init (s0 : St) (this : Nat) (p0 : Option Nat) (p1 : Int32) : Option St :=
    pR s0 1023 (some this) p0 fun s1 =>
    pI s1 47 (some this) p1 fun s2 =>
    some s2
def sX5_init (s0 : St) (this : Nat) : Option St :=
    pI s0 49 (some this) (-1) fun s1 =>
    nwO s1 6 3 fun s2 a3 =>
    bp (sJ2_init s2 a3) fun s4 =>
    pR s4 1024 (some this) (some a3) fun s6 =>
    nwO s6 6 3 fun s7 a8 =>
    bp (sJ2_init s7 a8) fun s9 =>
    pR s9 1025 (some this) (some a8) fun s11 =>
    nwO s11 6 3 fun s12 a13 =>
    bp (sJ2_init s12 a13) fun s14 =>
    pR s14 1026 (some this) (some a13) fun s16 =>
    nwO s16 6 3 fun s17 a18 =>
    bp (sJ2_init s17 a18) fun s19 =>
    pR s19 1027 (some this) (some a18) fun s21 =>
    nwA s21 1 4 fun s22 a23 =>
    pR s22 1028 (some this) (some a23) fun s24 =>
    some s24
def sX4_look (s0 : St) (this : Nat) : Option Int32 :=
    gI s0 48 (some this) fun v1 =>
    gI s0 47 (some this) fun v2 =>
    if v2 ≤ v1 then
    (some (-1))
    else
    (gR s0 1023 (some this) fun v3 =>
    gI s0 48 (some this) fun v4 =>
    lI s0 2 v3 v4 fun v5 =>
    some (v5 &&& 255))
def sX6_init (s0 : St) (this : Nat) (p0 : Int32) (p1 : Int32) (p2 : Int32) (p3 : Option Nat) : Option St :=
    pI s0 54 (some this) p0 fun s1 =>
    pI s1 55 (some this) p1 fun s2 =>
    pI s2 56 (some this) p2 fun s3 =>
    pR s3 1029 (some this) p3 fun s4 =>
    some s4
def sJ3_init (s0 : St) (this : Nat) (p0 : Int32) : Option St :=
    if (1 : Int32) = 0 then
    (none)
    else
    (nwA s0 2 p0 fun s1 a2 =>
    pR s1 1030 (some this) (some a2) fun s3 =>
    pI s3 57 (some this) 0 fun s4 =>
    some s4)
def sJ4_init (s0 : St) (this : Nat) : Option St :=
    bp (sJ3_init s0 this 16) fun s1 =>
    some s1
def sJ3_ensureCapacityInternal (s0 : St) (this : Nat) (p0 : Int32) : Option Unit :=
    gR s0 1030 (some this) fun v1 =>
    aN s0 v1 fun v2 =>
    gI s0 57 (some this) fun v3 =>
    if (p0 - (v2 >>> (v3 &&& 31))) ≤ 0 then
    (some ())
    else
    (none)
def sJ3_isLatin1 (s0 : St) (this : Nat) : Option Int32 :=
    if (1 : Int32) = 0 then
    (some 0)
    else
    (gI s0 57 (some this) fun v1 =>
    if v1 = 0 then
    (some 1)
    else
    (some 0))
def sJ10_canEncode (s0 : St) (p0 : Int32) : Option Int32 :=
    if 255 < p0 then
    (some 0)
    else
    (some 1)
def sJ3_append (s0 : St) (this : Nat) (p0 : Int32) : Option (St × Option Nat) :=
    gI s0 59 (some this) fun v1 =>
    kd s0 this 12 <|
    bp (sJ3_ensureCapacityInternal s0 this (v1 + 1)) fun _ =>
    kd s0 this 12 <|
    bp (sJ3_isLatin1 s0 this) fun v5 =>
    if v5 = 0 then
    (none)
    else
    (bp (sJ10_canEncode s0 p0) fun v7 =>
    if v7 = 0 then
    (none)
    else
    (gR s0 1030 (some this) fun v9 =>
    gI s0 59 (some this) fun v10 =>
    pI s0 59 (some this) (v10 + 1) fun s11 =>
    tB s11 v9 v10 ((Int32.toInt8 p0).toInt32) fun s12 =>
    some (s12, (some this))))
def sJ4_append (s0 : St) (this : Nat) (p0 : Int32) : Option (St × Option Nat) :=
    kd s0 this 12 <|
    bd (sJ3_append s0 this p0) fun s1 v2 =>
    some (s1, (some this))
def sJ3_getValue (s0 : St) (this : Nat) : Option (Option Nat) :=
    gR s0 1030 (some this) fun v1 =>
    some v1
def sJ3_length (s0 : St) (this : Nat) : Option Int32 :=
    gI s0 59 (some this) fun v1 =>
    some v1
def sJ4_length (s0 : St) (this : Nat) : Option Int32 :=
    kd s0 this 12 <|
    bp (sJ3_length s0 this) fun v1 =>
    some v1
def sJ9_checkLength (s0 : St) (p0 : Int32) (p1 : Int32) : Option Unit :=
    if p0 ≤ p1 then
    (some ())
    else
    (none)
def sJ9_copyOfRangeByte (s0 : St) (p0 : Option Nat) (p1 : Int32) (p2 : Int32) : Option (St × Option Nat) :=
    bp (sJ9_checkLength s0 p1 p2) fun _ =>
    nwA s0 2 (p2 - p1) fun s2 a3 =>
    aN s2 p0 fun v4 =>
    cpI s2 2 p0 p1 (some a3) 0 (mnI (v4 - p1) (p2 - p1)) fun s5 =>
    some (s5, (some a3))
def sJ9_copyOfRange (s0 : St) (p0 : Option Nat) (p1 : Int32) (p2 : Int32) : Option (St × Option Nat) :=
    bp (
    if p1 = 0 then
    (aN s0 p0 fun v4 =>
    if p2 = v4 then
    (none)
    else
    (some ()))
    else
    (some ())) fun _ =>
    bd (sJ9_copyOfRangeByte s0 p0 p1 p2) fun s1 v2 =>
    some (s1, v2)
def sJ5_init_2 (s0 : St) (this : Nat) (p0 : Option Nat) (p1 : Option Nat) : Option St :=
    iv s0 12 p0 fun w1 =>
    bp (sJ3_getValue s0 w1) fun v4 =>
    iv s0 12 p0 fun w6 =>
    bp (sJ4_length s0 w6) fun v9 =>
    iv s0 12 p0 fun w11 =>
    bp (sJ3_isLatin1 s0 w11) fun v14 =>
    if v14 = 0 then
    (bp (
    if (1 : Int32) = 0 then
    (some ())
    else
    (gI s0 58 p0 fun v21 =>
    if v21 = 0 then
    (some ())
    else
    (none))) fun _ =>
    pI s0 60 (some this) 1 fun s16 =>
    bd (sJ9_copyOfRange s16 v4 0 (v9 <<< (1 &&& 31))) fun s17 v18 =>
    pR s17 1031 (some this) v18 fun s20 =>
    some s20)
    else
    (pI s0 60 (some this) 0 fun s25 =>
    bd (sJ9_copyOfRange s25 v4 0 v9) fun s26 v27 =>
    pR s26 1031 (some this) v27 fun s29 =>
    some s29)
def sJ5_init (s0 : St) (this : Nat) (p0 : Option Nat) : Option St :=
    bp (sJ5_init_2 s0 this p0 none) fun s1 =>
    some s1
def sJ4_toString (s0 : St) (this : Nat) : Option (St × Option Nat) :=
    nwO s0 13 4 fun s1 a2 =>
    bp (sJ5_init s1 a2 (some this)) fun s3 =>
    some (s3, (some a2))
def sX4_next_L0 (this : Nat) : Nat → St → Option (St)
  | 0, _ => none
  | n + 1, s1 =>
    kd s1 this 9 <|
    bp (sX4_look s1 this) fun v4 =>
    if v4 = 32 then
    (gI s1 48 (some this) fun v6 =>
    pI s1 48 (some this) (v6 + 1) fun s7 =>
    sX4_next_L0 this n s7)
    else
    (some s1)
def sX4_next_L167 (this : Nat) (i1 : Int32) : Nat → St → Int32 → Option (St × Int32)
  | 0, _, _ => none
  | n + 1, s38, v39 =>
    kd s38 this 9 <|
    bp (sX4_look s38 this) fun v43 =>
    bp (sX1_in s38 v43 48 57) fun v45 =>
    if v45 = 0 then
    (some (s38, v39))
    else
    (gI s38 48 (some this) fun v47 =>
    bp (
    if 3 ≤ (v47 - i1) then
    (some v39)
    else
    (kd s38 this 9 <|
    bp (sX4_look s38 this) fun v52 =>
    some (((10 * v39) + v52) - 48))) fun (v48 : Int32) =>
    gI s38 48 (some this) fun v49 =>
    pI s38 48 (some this) (v49 + 1) fun s50 =>
    sX4_next_L167 this i1 n s50 v48)
def sX4_next_L73 (this : Nat) (i1 : Int32) (i2 : Option Nat) : Nat → St → Option (St)
  | 0, _ => none
  | n + 1, s72 =>
    kd s72 this 9 <|
    bp (sX4_look s72 this) fun v75 =>
    bp (sX1_in s72 v75 97 122) fun v77 =>
    if v77 = 0 then
    (some s72)
    else
    (gI s72 48 (some this) fun v79 =>
    bp (
    if 8 ≤ (v79 - i1) then
    (some s72)
    else
    (kd s72 this 9 <|
    bp (sX4_look s72 this) fun v84 =>
    iv s72 12 i2 fun w86 =>
    bd (sJ4_append s72 w86 (((Int32.toUInt32 v84) % 65536).toInt32)) fun s89 v90 =>
    some s89)) fun (s80 : St) =>
    gI s80 48 (some this) fun v81 =>
    pI s80 48 (some this) (v81 + 1) fun s82 =>
    sX4_next_L73 this i1 i2 n s82)
def sX4_next (s0 : St) (this : Nat) : Option (St × Option Nat) :=
    bp (sX4_next_L0 this FU s0) fun (s8 : St) =>
    gI s8 48 (some this) fun v9 =>
    gI s8 48 (some this) fun v10 =>
    gI s8 47 (some this) fun v11 =>
    if v10 = v11 then
    (nwO s8 11 4 fun s12 a13 =>
    bp (sX6_init s12 a13 1 v9 0 (s12.ks 0)) fun s14 =>
    some (s14, (some a13)))
    else
    (kd s8 this 9 <|
    bp (sX4_look s8 this) fun v17 =>
    bp (sX1_in s8 v17 97 122) fun v19 =>
    if v19 = 0 then
    (kd s8 this 9 <|
    bp (sX4_look s8 this) fun v22 =>
    bp (sX1_in s8 v22 48 57) fun v24 =>
    if v24 = 0 then
    (kd s8 this 9 <|
    bp (sX4_look s8 this) fun v27 =>
    gI s8 48 (some this) fun v29 =>
    pI s8 48 (some this) (v29 + 1) fun s30 =>
    nwO s30 11 4 fun s31 a32 =>
    bp (
    if v27 = 59 then
    (some 4)
    else
    (some 0)) fun (v33 : Int32) =>
    bp (sX6_init s31 a32 v33 v9 v27 (s31.ks 0)) fun s34 =>
    some (s34, (some a32)))
    else
    (b2 (sX4_next_L167 this v9 FU s8 0) fun (s56 : St) (v57 : Int32) =>
    nwO s56 11 4 fun s58 a59 =>
    gI s58 48 (some this) fun v60 =>
    bp (
    if (v60 - v9) ≤ 3 then
    (some 3)
    else
    (some 0)) fun (v61 : Int32) =>
    bp (sX6_init s58 a59 v61 v9 v57 (s58.ks 0)) fun s62 =>
    some (s62, (some a59))))
    else
    (nwO s8 12 4 fun s68 a69 =>
    bp (sJ4_init s68 a69) fun s70 =>
    bp (sX4_next_L73 this v9 (some a69) FU s70) fun (s94 : St) =>
    nwO s94 11 4 fun s95 a96 =>
    gI s95 48 (some this) fun v97 =>
    bp (
    if (v97 - v9) ≤ 8 then
    (some 2)
    else
    (some 0)) fun (v98 : Int32) =>
    kd s95 a69 12 <|
    bd (sJ4_toString s95 a69) fun s100 v101 =>
    bp (sX6_init s100 a96 v98 v9 0 v101) fun s103 =>
    some (s103, (some a96))))
def sX3_init (s0 : St) (this : Nat) (p0 : Option Nat) : Option St :=
    nwO s0 10 10 fun s1 a2 =>
    bp (sX5_init s1 a2) fun s3 =>
    pR s3 1021 (some this) (some a2) fun s5 =>
    pR s5 1020 (some this) p0 fun s6 =>
    iv s6 9 p0 fun w7 =>
    bd (sX4_next s6 w7) fun s10 v11 =>
    pR s10 1022 (some this) v11 fun s13 =>
    some s13
def sJ5_isLatin1 (s0 : St) (this : Nat) : Option Int32 :=
    if (1 : Int32) = 0 then
    (some 0)
    else
    (gI s0 60 (some this) fun v1 =>
    if v1 = 0 then
    (some 1)
    else
    (some 0))
def sJ7_signedHashCode_L8 (s1 : St) (i1 : Option Nat) (i4 : Int32) : Nat → Int32 → Int32 → Option (Int32)
  | 0, _, _ => none
  | n + 1, v2, v3 =>
    if i4 ≤ v3 then
    (some v2)
    else
    (lI s1 2 i1 v3 fun v5 =>
    sJ7_signedHashCode_L8 s1 i1 i4 n ((31 * v2) + (v5 &&& 255)) (v3 + 1))
def sJ7_signedHashCode (s0 : St) (p0 : Int32) (p1 : Option Nat) (p2 : Int32) (p3 : Int32) : Option Int32 :=
    bp (sJ7_signedHashCode_L8 s0 p1 (p2 + p3) FU p0 p2) fun (v6 : Int32) =>
    some v6
def sJ7_hashCode_2_L8 (s1 : St) (i1 : Option Nat) (i4 : Int32) : Nat → Int32 → Int32 → Option (Int32)
  | 0, _, _ => none
  | n + 1, v2, v3 =>
    if i4 ≤ v3 then
    (some v2)
    else
    (lI s1 2 i1 v3 fun v5 =>
    sJ7_hashCode_2_L8 s1 i1 i4 n ((31 * v2) + v5) (v3 + 1))
def sJ7_hashCode_2 (s0 : St) (p0 : Int32) (p1 : Option Nat) (p2 : Int32) (p3 : Int32) : Option Int32 :=
    bp (sJ7_hashCode_2_L8 s0 p1 (p2 + p3) FU p0 p2) fun (v6 : Int32) =>
    some v6
def sJ7_vectorizedHashCode (s0 : St) (p0 : Option Nat) (p1 : Int32) (p2 : Int32) (p3 : Int32) (p4 : Int32) : Option Int32 :=
    if p4 = 4 then
    (ck s0 [2] p0 <|
    bp (sJ7_signedHashCode s0 p3 p0 p1 p2) fun v2 =>
    some v2)
    else
    (if p4 = 5 then
    (none)
    else
    (if p4 = 6 then
    (none)
    else
    (if p4 = 7 then
    (none)
    else
    (if p4 = 8 then
    (ck s0 [2] p0 <|
    bp (sJ7_hashCode_2 s0 p3 p0 p1 p2) fun v13 =>
    some v13)
    else
    (if p4 = 9 then
    (none)
    else
    (if p4 = 10 then
    (none)
    else
    (none)))))))
def sJ10_hashCode (s0 : St) (p0 : Option Nat) : Option Int32 :=
    aN s0 p0 fun v1 =>
    if v1 = 0 then
    (some 0)
    else
    (if v1 = 1 then
    (lI s0 2 p0 0 fun v4 =>
    some (v4 &&& 255))
    else
    (aN s0 p0 fun v7 =>
    bp (sJ7_vectorizedHashCode s0 p0 0 v7 0 4) fun v8 =>
    some v8))
def sJ5_hashCode (s0 : St) (this : Nat) : Option (St × Int32) :=
    gI s0 61 (some this) fun v1 =>
    if v1 = 0 then
    (gI s0 62 (some this) fun v2 =>
    if v2 = 0 then
    (kd s0 this 13 <|
    bp (sJ5_isLatin1 s0 this) fun v4 =>
    if v4 = 0 then
    (none)
    else
    (gR s0 1031 (some this) fun v6 =>
    bp (sJ10_hashCode s0 v6) fun v7 =>
    if v7 = 0 then
    (pI s0 62 (some this) 1 fun s9 =>
    some (s9, v7))
    else
    (pI s0 61 (some this) v7 fun s10 =>
    some (s10, v7))))
    else
    (some (s0, v1)))
    else
    (some (s0, v1))
def sJ10_equals_L9 (s3 : St) (i0 : Option Nat) (i1 : Option Nat) : Nat → Int32 → Option (Int32 ⊕ (Unit))
  | 0, _ => none
  | n + 1, v4 =>
    aN s3 i0 fun v5 =>
    if v5 ≤ v4 then
    (some (.inr ()))
    else
    (lI s3 2 i0 v4 fun v6 =>
    lI s3 2 i1 v4 fun v7 =>
    if v6 = v7 then
    (sJ10_equals_L9 s3 i0 i1 n (v4 + 1))
    else
    (some (.inl 0)))
def sJ10_equals (s0 : St) (p0 : Option Nat) (p1 : Option Nat) : Option Int32 :=
    aN s0 p0 fun v1 =>
    aN s0 p1 fun v2 =>
    if v1 = v2 then
    (lc (sJ10_equals_L9 s0 p0 p1 FU 0) fun _ =>
    some 1)
    else
    (some 0)
def sJ5_equals (s0 : St) (this : Nat) (p0 : Option Nat) : Option Int32 :=
    if (some this) = p0 then
    (some 1)
    else
    (ck s0 [13] p0 <|
    if (1 : Int32) = 0 then
    (some 0)
    else
    (ck s0 [13] p0 <|
    if (1 : Int32) = 0 then
    (gR s0 1031 (some this) fun v3 =>
    gR s0 1031 p0 fun v4 =>
    bp (sJ10_equals s0 v3 v4) fun v5 =>
    if v5 = 0 then
    (some 0)
    else
    (some 1))
    else
    (gI s0 60 (some this) fun v7 =>
    gI s0 60 p0 fun v8 =>
    if v7 = v8 then
    (gR s0 1031 (some this) fun v9 =>
    gR s0 1031 p0 fun v10 =>
    bp (sJ10_equals s0 v9 v10) fun v11 =>
    if v11 = 0 then
    (some 0)
    else
    (some 1))
    else
    (some 0))))
def sX3_isOver (s0 : St) (this : Nat) : Option Int32 :=
    gI s0 45 (some this) fun v1 =>
    if v1 ≤ 0 then
    (some 0)
    else
    (some 1)
def sX3_wrong (s0 : St) (this : Nat) (p0 : Int32) : Option St :=
    kd s0 this 8 <|
    bp (sX3_isOver s0 this) fun v2 =>
    if v2 = 0 then
    (pI s0 45 (some this) p0 fun s4 =>
    gR s4 1022 (some this) fun v5 =>
    gI s4 55 v5 fun v6 =>
    pI s4 46 (some this) v6 fun s7 =>
    some s7)
    else
    (some s0)
def sX3_on (s0 : St) (this : Nat) : Option St :=
    kd s0 this 8 <|
    bp (sX3_isOver s0 this) fun v2 =>
    if v2 = 0 then
    (gR s0 1022 (some this) fun v4 =>
    gI s0 54 v4 fun v5 =>
    if v5 = 1 then
    (some s0)
    else
    (gR s0 1020 (some this) fun v6 =>
    iv s0 9 v6 fun w7 =>
    bd (sX4_next s0 w7) fun s10 v11 =>
    pR s10 1022 (some this) v11 fun s13 =>
    some s13))
    else
    (some s0)
def sX6_is (s0 : St) (this : Nat) (p0 : Option Nat) : Option Int32 :=
    gI s0 54 (some this) fun v1 =>
    if v1 = 2 then
    (gR s0 1029 (some this) fun v2 =>
    iv s0 13 v2 fun w3 =>
    bp (sJ5_equals s0 w3 p0) fun v6 =>
    if v6 = 0 then
    (some 0)
    else
    (some 1))
    else
    (some 0)
def sX3_needs (s0 : St) (this : Nat) (p0 : Option Nat) : Option St :=
    gR s0 1022 (some this) fun v1 =>
    iv s0 11 v1 fun w2 =>
    bp (sX6_is s0 w2 p0) fun v5 =>
    bp (
    if v5 = 0 then
    (kd s0 this 8 <|
    bp (sX3_wrong s0 this 1) fun s12 =>
    some s12)
    else
    (some s0)) fun (s7 : St) =>
    kd s7 this 8 <|
    bp (sX3_on s7 this) fun s9 =>
    some s9
def sX3_wholeAt (s0 : St) (this : Nat) (p0 : Int32) (p1 : Int32) : Option (St × Int32) :=
    gR s0 1022 (some this) fun v1 =>
    gI s0 54 v1 fun v2 =>
    bp (
    if v2 = 3 then
    (gR s0 1022 (some this) fun v6 =>
    gI s0 56 v6 fun v7 =>
    bp (sX1_in s0 v7 p0 p1) fun v8 =>
    if v8 = 0 then
    (kd s0 this 8 <|
    bp (sX3_wrong s0 this 4) fun s11 =>
    some s11)
    else
    (some s0))
    else
    (kd s0 this 8 <|
    bp (sX3_wrong s0 this 1) fun s14 =>
    some s14)) fun (s3 : St) =>
    gR s3 1022 (some this) fun v4 =>
    gI s3 56 v4 fun v5 =>
    some (s3, v5)
def sX3_whole (s0 : St) (this : Nat) (p0 : Int32) (p1 : Int32) : Option (St × Int32) :=
    kd s0 this 8 <|
    bd (sX3_wholeAt s0 this p0 p1) fun s2 v3 =>
    kd s2 this 8 <|
    bp (sX3_on s2 this) fun s6 =>
    some (s6, v3)
def sX3_part (s0 : St) (this : Nat) (p0 : Option Nat) (p1 : Int32) (p2 : Int32) : Option (St × Int32) :=
    kd s0 this 8 <|
    bp (sX3_needs s0 this p0) fun s2 =>
    kd s2 this 8 <|
    bd (sX3_whole s2 this p1 p2) fun s5 v6 =>
    some (s5, v6)
def sX3_townLine (s0 : St) (this : Nat) : Option St :=
    gR s0 1021 (some this) fun v1 =>
    gI s0 49 v1 fun v2 =>
    bp (
    if v2 = (-1) then
    (some s0)
    else
    (kd s0 this 8 <|
    bp (sX3_wrong s0 this 3) fun s17 =>
    some s17)) fun (s3 : St) =>
    kd s3 this 8 <|
    bp (sX3_on s3 this) fun s5 =>
    kd s5 this 8 <|
    bd (sX3_part s5 this (s5.ks 4) 0 100) fun s8 v9 =>
    kd s8 this 8 <|
    bp (sX3_isOver s8 this) fun v12 =>
    if v12 = 0 then
    (gR s8 1021 (some this) fun v14 =>
    pI s8 49 v14 v9 fun s15 =>
    some s15)
    else
    (some s8)
def sJ2_size (s0 : St) (this : Nat) : Option Int32 :=
    gI s0 18 (some this) fun v1 =>
    some v1
def sX3_begins (s0 : St) (this : Nat) (p0 : Int32) (p1 : Int32) : Option St :=
    bp (
    if p0 = p1 then
    (kd s0 this 8 <|
    bp (sX3_wrong s0 this 5) fun s14 =>
    some s14)
    else
    (some s0)) fun (s1 : St) =>
    gR s1 1021 (some this) fun v2 =>
    gI s1 49 v2 fun v3 =>
    bp (
    if v3 = (-1) then
    (kd s1 this 8 <|
    bp (sX3_wrong s1 this 6) fun s9 =>
    some s9)
    else
    (some s1)) fun (s4 : St) =>
    kd s4 this 8 <|
    bp (sX3_on s4 this) fun s6 =>
    some s6
def sX6_isName (s0 : St) (this : Nat) : Option (St × Int32) :=
    gI s0 54 (some this) fun v1 =>
    if v1 = 2 then
    (gR s0 1029 (some this) fun v2 =>
    iv s0 13 v2 fun w3 =>
    bd (sJ5_hashCode s0 w3) fun s6 v7 =>
    bp (
    if v7 = (-991716523) then
    (iv s6 13 v2 fun w28 =>
    bp (sJ5_equals s6 w28 (s6.ks 12)) fun v31 =>
    if v31 = 0 then
    (some (-1))
    else
    (some 3))
    else
    (if v7 = (-840227282) then
    (iv s6 13 v2 fun w35 =>
    bp (sJ5_equals s6 w35 (s6.ks 18)) fun v38 =>
    if v38 = 0 then
    (some (-1))
    else
    (some 7))
    else
    (if v7 = 3178390 then
    (iv s6 13 v2 fun w42 =>
    bp (sJ5_equals s6 w42 (s6.ks 9)) fun v45 =>
    if v45 = 0 then
    (some (-1))
    else
    (some 4))
    else
    (if v7 = 3202804 then
    (iv s6 13 v2 fun w49 =>
    bp (sJ5_equals s6 w49 (s6.ks 10)) fun v52 =>
    if v52 = 0 then
    (some (-1))
    else
    (some 6))
    else
    (if v7 = 3526272 then
    (iv s6 13 v2 fun w56 =>
    bp (sJ5_equals s6 w56 (s6.ks 16)) fun v59 =>
    if v59 = 0 then
    (some (-1))
    else
    (some 2))
    else
    (if v7 = 3566226 then
    (iv s6 13 v2 fun w63 =>
    bp (sJ5_equals s6 w63 (s6.ks 17)) fun v66 =>
    if v66 = 0 then
    (some (-1))
    else
    (some 0))
    else
    (if v7 = 96651962 then
    (iv s6 13 v2 fun w70 =>
    bp (sJ5_equals s6 w70 (s6.ks 6)) fun v73 =>
    if v73 = 0 then
    (some (-1))
    else
    (some 8))
    else
    (if v7 = 106748167 then
    (iv s6 13 v2 fun w77 =>
    bp (sJ5_equals s6 w77 (s6.ks 13)) fun v80 =>
    if v80 = 0 then
    (some (-1))
    else
    (some 1))
    else
    (if v7 = 651402020 then
    (iv s6 13 v2 fun w84 =>
    bp (sJ5_equals s6 w84 (s6.ks 15)) fun v87 =>
    if v87 = 0 then
    (some (-1))
    else
    (some 5))
    else
    (some (-1))))))))))) fun (v9 : Int32) =>
    if v9 = 0 then
    (some (s6, 0))
    else
    (if v9 = 1 then
    (some (s6, 0))
    else
    (if v9 = 2 then
    (some (s6, 0))
    else
    (if v9 = 3 then
    (some (s6, 0))
    else
    (if v9 = 4 then
    (some (s6, 0))
    else
    (if v9 = 5 then
    (some (s6, 0))
    else
    (if v9 = 6 then
    (some (s6, 0))
    else
    (if v9 = 7 then
    (some (s6, 0))
    else
    (if v9 = 8 then
    (some (s6, 0))
    else
    (some (s6, 1)))))))))))
    else
    (some (s0, 0))
def sJ11_checkIndex (s0 : St) (p0 : Int32) (p1 : Int32) (p2 : Option Nat) : Option Int32 :=
    if p0 < 0 then
    (none)
    else
    (if p0 < p1 then
    (some p0)
    else
    (none))
def sJ12_checkIndex (s0 : St) (p0 : Int32) (p1 : Int32) : Option Int32 :=
    bp (sJ11_checkIndex s0 p0 p1 none) fun v1 =>
    some v1
def sJ2_elementData (s0 : St) (this : Nat) (p0 : Int32) : Option (Option Nat) :=
    gR s0 1008 (some this) fun v1 =>
    lR s0 v1 p0 fun v2 =>
    some v2
def sJ2_get (s0 : St) (this : Nat) (p0 : Int32) : Option (Option Nat) :=
    gI s0 18 (some this) fun v1 =>
    bp (sJ12_checkIndex s0 p0 v1) fun v2 =>
    kd s0 this 6 <|
    bp (sJ2_elementData s0 this p0) fun v5 =>
    some v5
def sX5_find_L2 (s1 : St) (i0 : Option Nat) (i1 : Option Nat) : Nat → Int32 → Option (Int32 ⊕ (Unit))
  | 0, _ => none
  | n + 1, v2 =>
    iv s1 6 i0 fun w3 =>
    bp (sJ2_size s1 w3) fun v6 =>
    if v6 ≤ v2 then
    (some (.inr ()))
    else
    (iv s1 6 i0 fun w8 =>
    bp (sJ2_get s1 w8 v2) fun v11 =>
    ck s1 [14, 16, 17, 18, 19, 20] v11 <|
    gR s1 1032 v11 fun v14 =>
    iv s1 13 v14 fun w15 =>
    bp (sJ5_equals s1 w15 i1) fun v18 =>
    if v18 = 0 then
    (sX5_find_L2 s1 i0 i1 n (v2 + 1))
    else
    (some (.inl v2)))
def sX5_find (s0 : St) (p0 : Option Nat) (p1 : Option Nat) : Option Int32 :=
    lc (sX5_find_L2 s0 p0 p1 FU 0) fun _ =>
    some (-1)
def sX5_isName (s0 : St) (this : Nat) (p0 : Option Nat) : Option Int32 :=
    gR s0 1024 (some this) fun v1 =>
    bp (sX5_find s0 v1 p0) fun v2 =>
    if v2 = (-1) then
    (gR s0 1025 (some this) fun v4 =>
    bp (sX5_find s0 v4 p0) fun v5 =>
    if v5 = (-1) then
    (gR s0 1026 (some this) fun v7 =>
    bp (sX5_find s0 v7 p0) fun v8 =>
    if v8 = (-1) then
    (some 0)
    else
    (some 1))
    else
    (some 1))
    else
    (some 1)
def sX3_fresh (s0 : St) (this : Nat) : Option (St × Option Nat) :=
    gR s0 1022 (some this) fun v1 =>
    iv s0 11 v1 fun w2 =>
    bd (sX6_isName s0 w2) fun s5 v6 =>
    bp (
    if v6 = 0 then
    (kd s5 this 8 <|
    bp (sX3_wrong s5 this 1) fun s27 =>
    some s27)
    else
    (some s5)) fun (s8 : St) =>
    gR s8 1021 (some this) fun v9 =>
    gR s8 1029 v1 fun v10 =>
    iv s8 10 v9 fun w11 =>
    bp (sX5_isName s8 w11 v10) fun v14 =>
    bp (
    if v14 = 0 then
    (some s8)
    else
    (kd s8 this 8 <|
    bp (sX3_wrong s8 this 3) fun s22 =>
    some s22)) fun (s16 : St) =>
    kd s16 this 8 <|
    bp (sX3_on s16 this) fun s18 =>
    gR s18 1029 v1 fun v20 =>
    some (s18, v20)
def sX7_init (s0 : St) (this : Nat) (p0 : Option Nat) : Option St :=
    pR s0 1032 (some this) p0 fun s1 =>
    some s1
def sJ7_hugeLength (s0 : St) (p0 : Int32) (p1 : Int32) : Option Int32 :=
    if 0 ≤ (p0 + p1) then
    (if 2147483639 < (p0 + p1) then
    (some (p0 + p1))
    else
    (some 2147483639))
    else
    (none)
def sJ7_newLength (s0 : St) (p0 : Int32) (p1 : Int32) (p2 : Int32) : Option Int32 :=
    if (p0 + (mxI p1 p2)) ≤ 0 then
    (bp (sJ7_hugeLength s0 p0 p1) fun v1 =>
    some v1)
    else
    (if 2147483639 < (p0 + (mxI p1 p2)) then
    (bp (sJ7_hugeLength s0 p0 p1) fun v3 =>
    some v3)
    else
    (some (p0 + (mxI p1 p2))))
def sJ9_copyOf_3 (s0 : St) (p0 : Option Nat) (p1 : Int32) (p2 : Option Nat) : Option (St × Option Nat) :=
    if p2 = (s0.ks 70) then
    (nwA s0 4 p1 fun s1 a2 =>
    aN s1 p0 fun v3 =>
    cpR s1 p0 0 (some a2) 0 (mnI v3 p1) fun s4 =>
    some (s4, (some a2)))
    else
    (none)
def sJ9_copyOf_2 (s0 : St) (p0 : Option Nat) (p1 : Int32) : Option (St × Option Nat) :=
    gtC s0 p0 <|
    bd (sJ9_copyOf_3 s0 p0 p1 (s0.ks 70)) fun s1 v2 =>
    some (s1, v2)
def sJ2_grow_2 (s0 : St) (this : Nat) (p0 : Int32) : Option (St × Option Nat) :=
    gR s0 1008 (some this) fun v1 =>
    aN s0 v1 fun v2 =>
    if 0 < v2 then
    (bp (sJ7_newLength s0 v2 (p0 - v2) (v2 >>> (1 &&& 31))) fun v3 =>
    gR s0 1008 (some this) fun v5 =>
    bd (sJ9_copyOf_2 s0 v5 v3) fun s6 v7 =>
    pR s6 1008 (some this) v7 fun s9 =>
    some (s9, v7))
    else
    (gR s0 1008 (some this) fun v10 =>
    if v10 = (s0.ks 60) then
    (nwA s0 4 (mxI 10 p0) fun s11 a12 =>
    pR s11 1008 (some this) (some a12) fun s13 =>
    some (s13, (some a12)))
    else
    (bp (sJ7_newLength s0 v2 (p0 - v2) (v2 >>> (1 &&& 31))) fun v14 =>
    gR s0 1008 (some this) fun v16 =>
    bd (sJ9_copyOf_2 s0 v16 v14) fun s17 v18 =>
    pR s17 1008 (some this) v18 fun s20 =>
    some (s20, v18)))
def sJ2_grow (s0 : St) (this : Nat) : Option (St × Option Nat) :=
    gI s0 18 (some this) fun v1 =>
    kd s0 this 6 <|
    bd (sJ2_grow_2 s0 this (v1 + 1)) fun s3 v4 =>
    some (s3, v4)
def sJ2_add_2 (s0 : St) (this : Nat) (p0 : Option Nat) (p1 : Option Nat) (p2 : Int32) : Option St :=
    aN s0 p1 fun v1 =>
    b2 (
    if p2 = v1 then
    (kd s0 this 6 <|
    bd (sJ2_grow s0 this) fun s7 v8 =>
    some (s7, v8))
    else
    (some (s0, p1))) fun (s2 : St) (v3 : Option Nat) =>
    tR s2 v3 p2 p0 fun s4 =>
    pI s4 18 (some this) (p2 + 1) fun s5 =>
    some s5
def sJ2_add (s0 : St) (this : Nat) (p0 : Option Nat) : Option (St × Int32) :=
    gI s0 17 (some this) fun v1 =>
    pI s0 17 (some this) (v1 + 1) fun s2 =>
    gR s2 1008 (some this) fun v3 =>
    gI s2 18 (some this) fun v4 =>
    kd s2 this 6 <|
    bp (sJ2_add_2 s2 this p0 v3 v4) fun s6 =>
    some (s6, 1)
def sX3_place (s0 : St) (this : Nat) : Option St :=
    gR s0 1021 (some this) fun v1 =>
    gR s0 1024 v1 fun v2 =>
    iv s0 6 v2 fun w3 =>
    bp (sJ2_size s0 w3) fun v6 =>
    kd s0 this 8 <|
    bp (sX3_begins s0 this v6 6) fun s9 =>
    nwO s9 14 1 fun s11 a12 =>
    kd s11 this 8 <|
    bd (sX3_fresh s11 this) fun s14 v15 =>
    bp (sX7_init s14 a12 v15) fun s17 =>
    kd s17 this 8 <|
    bp (sX3_isOver s17 this) fun v20 =>
    if v20 = 0 then
    (gR s17 1021 (some this) fun v22 =>
    gR s17 1024 v22 fun v23 =>
    iv s17 6 v23 fun w24 =>
    bd (sJ2_add s17 w24 (some a12)) fun s27 v28 =>
    some s27)
    else
    (some s17)
def sX3_known (s0 : St) (this : Nat) (p0 : Option Nat) : Option (St × Int32) :=
    gR s0 1022 (some this) fun v1 =>
    iv s0 11 v1 fun w2 =>
    bd (sX6_isName s0 w2) fun s5 v6 =>
    bp (
    if v6 = 0 then
    (kd s5 this 8 <|
    bp (sX3_wrong s5 this 1) fun s23 =>
    some s23)
    else
    (some s5)) fun (s8 : St) =>
    gR s8 1022 (some this) fun v9 =>
    gR s8 1029 v9 fun v10 =>
    bp (sX5_find s8 p0 v10) fun v11 =>
    bp (
    if v11 = (-1) then
    (kd s8 this 8 <|
    bp (sX3_wrong s8 this 2) fun s18 =>
    some s18)
    else
    (some s8)) fun (s13 : St) =>
    kd s13 this 8 <|
    bp (sX3_isOver s13 this) fun v15 =>
    if v15 = 0 then
    (some (s13, v11))
    else
    (some (s13, 0))
def sX3_told (s0 : St) (this : Nat) (p0 : Option Nat) : Option (St × Int32) :=
    kd s0 this 8 <|
    bd (sX3_known s0 this p0) fun s2 v3 =>
    kd s2 this 8 <|
    bp (sX3_on s2 this) fun s6 =>
    some (s6, v3)
def sX5_isSight_L2 (s1 : St) (this : Nat) (i1 : Int32) (i2 : Int32) : Nat → Int32 → Option (Int32 ⊕ (Unit))
  | 0, _ => none
  | n + 1, v2 =>
    gR s1 1027 (some this) fun v3 =>
    iv s1 6 v3 fun w4 =>
    bp (sJ2_size s1 w4) fun v7 =>
    if v7 ≤ v2 then
    (some (.inr ()))
    else
    (gR s1 1027 (some this) fun v9 =>
    iv s1 6 v9 fun w10 =>
    bp (sJ2_get s1 w10 v2) fun v13 =>
    ck s1 [15] v13 <|
    gI s1 63 v13 fun v16 =>
    if v16 = i1 then
    (gR s1 1027 (some this) fun v17 =>
    iv s1 6 v17 fun w18 =>
    bp (sJ2_get s1 w18 v2) fun v21 =>
    ck s1 [15] v21 <|
    gI s1 64 v21 fun v24 =>
    if v24 = i2 then
    (some (.inl 1))
    else
    (sX5_isSight_L2 s1 this i1 i2 n (v2 + 1)))
    else
    (sX5_isSight_L2 s1 this i1 i2 n (v2 + 1)))
def sX5_isSight (s0 : St) (this : Nat) (p0 : Int32) (p1 : Int32) : Option Int32 :=
    lc (sX5_isSight_L2 s0 this p0 p1 FU 0) fun _ =>
    some 0
def sX8_init (s0 : St) (this : Nat) (p0 : Int32) (p1 : Int32) : Option St :=
    pI s0 63 (some this) p0 fun s1 =>
    pI s1 64 (some this) p1 fun s2 =>
    some s2
def sX3_sees (s0 : St) (this : Nat) : Option St :=
    gR s0 1021 (some this) fun v1 =>
    gR s0 1027 v1 fun v2 =>
    iv s0 6 v2 fun w3 =>
    bp (sJ2_size s0 w3) fun v6 =>
    kd s0 this 8 <|
    bp (sX3_begins s0 this v6 8) fun s9 =>
    gR s9 1021 (some this) fun v11 =>
    gR s9 1024 v11 fun v12 =>
    kd s9 this 8 <|
    bd (sX3_told s9 this v12) fun s14 v15 =>
    gR s14 1021 (some this) fun v17 =>
    gR s14 1024 v17 fun v18 =>
    kd s14 this 8 <|
    bd (sX3_known s14 this v18) fun s20 v21 =>
    kd s20 this 8 <|
    bp (sX3_isOver s20 this) fun v24 =>
    bp (
    if v24 = 0 then
    (if v15 = v21 then
    (kd s20 this 8 <|
    bp (sX3_wrong s20 this 3) fun s46 =>
    some s46)
    else
    (gR s20 1021 (some this) fun v48 =>
    iv s20 10 v48 fun w49 =>
    bp (sX5_isSight s20 w49 v15 v21) fun v52 =>
    if v52 = 0 then
    (some s20)
    else
    (kd s20 this 8 <|
    bp (sX3_wrong s20 this 3) fun s55 =>
    some s55)))
    else
    (some s20)) fun (s26 : St) =>
    kd s26 this 8 <|
    bp (sX3_on s26 this) fun s28 =>
    kd s28 this 8 <|
    bp (sX3_isOver s28 this) fun v31 =>
    if v31 = 0 then
    (gR s28 1021 (some this) fun v33 =>
    gR s28 1027 v33 fun v34 =>
    nwO s28 15 2 fun s35 a36 =>
    bp (sX8_init s35 a36 v15 v21) fun s37 =>
    iv s37 6 v34 fun w39 =>
    bd (sJ2_add s37 w39 (some a36)) fun s42 v43 =>
    some s42)
    else
    (some s28)
def sX9_init (s0 : St) (this : Nat) (p0 : Option Nat) : Option St :=
    bp (sX7_init s0 this p0) fun s1 =>
    nwA s1 1 10 fun s3 a4 =>
    pR s3 1033 (some this) (some a4) fun s5 =>
    nwA s5 1 10 fun s6 a7 =>
    pR s6 1034 (some this) (some a7) fun s8 =>
    pI s8 69 (some this) (-2) fun s9 =>
    some s9
def sX10_init (s0 : St) (this : Nat) (p0 : Option Nat) : Option St :=
    bp (sX9_init s0 this p0) fun s1 =>
    some s1
def sX11_init (s0 : St) (this : Nat) (p0 : Option Nat) : Option St :=
    bp (sX9_init s0 this p0) fun s1 =>
    some s1
def sX12_init (s0 : St) (this : Nat) (p0 : Option Nat) : Option St :=
    bp (sX9_init s0 this p0) fun s1 =>
    some s1
def sX3_kind (s0 : St) (this : Nat) (p0 : Option Nat) : Option (St × Option Nat) :=
    gR s0 1022 (some this) fun v1 =>
    gI s0 54 v1 fun v2 =>
    bp (
    if v2 = 2 then
    (gR s0 1022 (some this) fun v72 =>
    gR s0 1029 v72 fun v73 =>
    some v73)
    else
    (some (s0.ks 0))) fun (v3 : Option Nat) =>
    iv s0 13 v3 fun w4 =>
    bd (sJ5_hashCode s0 w4) fun s7 v8 =>
    bp (
    if v8 = 3015874 then
    (iv s7 13 v3 fun w42 =>
    bp (sJ5_equals s7 w42 (s7.ks 2)) fun v45 =>
    if v45 = 0 then
    (some (-1))
    else
    (some 3))
    else
    (if v8 = 3079270 then
    (iv s7 13 v3 fun w49 =>
    bp (sJ5_equals s7 w49 (s7.ks 5)) fun v52 =>
    if v52 = 0 then
    (some (-1))
    else
    (some 1))
    else
    (if v8 = 93826901 then
    (iv s7 13 v3 fun w56 =>
    bp (sJ5_equals s7 w56 (s7.ks 3)) fun v59 =>
    if v59 = 0 then
    (some (-1))
    else
    (some 2))
    else
    (if v8 = 106748362 then
    (iv s7 13 v3 fun w63 =>
    bp (sJ5_equals s7 w63 (s7.ks 14)) fun v66 =>
    if v66 = 0 then
    (some (-1))
    else
    (some 0))
    else
    (some (-1)))))) fun (v10 : Int32) =>
    if v10 = 0 then
    (nwO s7 16 9 fun s11 a12 =>
    bp (sX9_init s11 a12 p0) fun s13 =>
    some (s13, (some a12)))
    else
    (if v10 = 1 then
    (nwO s7 17 9 fun s17 a18 =>
    bp (sX10_init s17 a18 p0) fun s19 =>
    some (s19, (some a18)))
    else
    (if v10 = 2 then
    (nwO s7 18 9 fun s23 a24 =>
    bp (sX11_init s23 a24 p0) fun s25 =>
    some (s25, (some a24)))
    else
    (if v10 = 3 then
    (nwO s7 19 9 fun s29 a30 =>
    bp (sX12_init s29 a30 p0) fun s31 =>
    some (s31, (some a30)))
    else
    (kd s7 this 8 <|
    bp (sX3_wrong s7 this 1) fun s36 =>
    nwO s36 16 9 fun s38 a39 =>
    bp (sX9_init s38 a39 p0) fun s40 =>
    some (s40, (some a39))))))
def sX3_person (s0 : St) (this : Nat) : Option St :=
    gR s0 1021 (some this) fun v1 =>
    gR s0 1025 v1 fun v2 =>
    iv s0 6 v2 fun w3 =>
    bp (sJ2_size s0 w3) fun v6 =>
    kd s0 this 8 <|
    bp (sX3_begins s0 this v6 6) fun s9 =>
    kd s9 this 8 <|
    bd (sX3_fresh s9 this) fun s12 v13 =>
    kd s12 this 8 <|
    bd (sX3_kind s12 this v13) fun s16 v17 =>
    kd s16 this 8 <|
    bp (sX3_on s16 this) fun s20 =>
    kd s20 this 8 <|
    bp (sX3_needs s20 this (s20.ks 1)) fun s23 =>
    gR s23 1021 (some this) fun v25 =>
    gR s23 1024 v25 fun v26 =>
    kd s23 this 8 <|
    bd (sX3_told s23 this v26) fun s28 v29 =>
    pI s28 65 v17 v29 fun s31 =>
    kd s31 this 8 <|
    bd (sX3_part s31 this (s31.ks 19) 0 9) fun s33 v34 =>
    pI s33 66 v17 v34 fun s36 =>
    kd s36 this 8 <|
    bp (sX3_isOver s36 this) fun v38 =>
    if v38 = 0 then
    (gR s36 1021 (some this) fun v40 =>
    gR s36 1025 v40 fun v41 =>
    iv s36 6 v41 fun w42 =>
    bd (sJ2_add s36 w42 v17) fun s45 v46 =>
    some s45)
    else
    (some s36)
def sX5_person (s0 : St) (this : Nat) (p0 : Int32) : Option (Option Nat) :=
    gR s0 1025 (some this) fun v1 =>
    iv s0 6 v1 fun w2 =>
    bp (sJ2_get s0 w2 p0) fun v5 =>
    ck s0 [16, 17, 18, 19] v5 <|
    some v5
def sX3_goes (s0 : St) (this : Nat) : Option St :=
    gR s0 1021 (some this) fun v1 =>
    gI s0 50 v1 fun v2 =>
    kd s0 this 8 <|
    bp (sX3_begins s0 this v2 10) fun s4 =>
    gR s4 1021 (some this) fun v6 =>
    gR s4 1025 v6 fun v7 =>
    kd s4 this 8 <|
    bd (sX3_told s4 this v7) fun s9 v10 =>
    gR s9 1021 (some this) fun v12 =>
    gR s9 1024 v12 fun v13 =>
    kd s9 this 8 <|
    bd (sX3_told s9 this v13) fun s15 v16 =>
    kd s15 this 8 <|
    bp (sX3_needs s15 this (s15.ks 1)) fun s19 =>
    kd s19 this 8 <|
    bd (sX3_wholeAt s19 this 1 59) fun s22 v23 =>
    kd s22 this 8 <|
    bp (sX3_isOver s22 this) fun v26 =>
    if v26 = 0 then
    (gR s22 1021 (some this) fun v28 =>
    iv s22 10 v28 fun w29 =>
    bp (sX5_person s22 w29 v10) fun v32 =>
    gI s22 68 v32 fun v34 =>
    bp (
    if v34 ≤ 0 then
    (some s22)
    else
    (gR s22 1033 v32 fun v53 =>
    gI s22 68 v32 fun v54 =>
    lI s22 1 v53 (v54 - 1) fun v55 =>
    if v55 < v23 then
    (some s22)
    else
    (kd s22 this 8 <|
    bp (sX3_wrong s22 this 7) fun s57 =>
    some s57))) fun (s35 : St) =>
    kd s35 this 8 <|
    bp (sX3_on s35 this) fun s37 =>
    kd s37 this 8 <|
    bp (sX3_isOver s37 this) fun v40 =>
    if v40 = 0 then
    (gR s37 1033 v32 fun v42 =>
    gI s37 68 v32 fun v43 =>
    tI s37 v42 v43 v23 fun s44 =>
    gR s44 1034 v32 fun v45 =>
    gI s44 68 v32 fun v46 =>
    tI s44 v45 v46 v16 fun s47 =>
    gI s47 68 v32 fun v48 =>
    pI s47 68 v32 (v48 + 1) fun s49 =>
    gR s49 1021 (some this) fun v50 =>
    gI s49 50 v50 fun v51 =>
    pI s49 50 v50 (v51 + 1) fun s52 =>
    some s52)
    else
    (some s37))
    else
    (some s22)
def sX13_init (s0 : St) (this : Nat) (p0 : Option Nat) : Option St :=
    bp (sX7_init s0 this p0) fun s1 =>
    pI s1 76 (some this) (-1) fun s3 =>
    some s3
def sX3_quarrel (s0 : St) (this : Nat) : Option St :=
    gR s0 1021 (some this) fun v1 =>
    gR s0 1026 v1 fun v2 =>
    iv s0 6 v2 fun w3 =>
    bp (sJ2_size s0 w3) fun v6 =>
    kd s0 this 8 <|
    bp (sX3_begins s0 this v6 3) fun s9 =>
    nwO s9 20 7 fun s11 a12 =>
    kd s11 this 8 <|
    bd (sX3_fresh s11 this) fun s14 v15 =>
    bp (sX13_init s14 a12 v15) fun s17 =>
    gR s17 1021 (some this) fun v19 =>
    gR s17 1025 v19 fun v20 =>
    kd s17 this 8 <|
    bd (sX3_told s17 this v20) fun s22 v23 =>
    pI s22 71 (some a12) v23 fun s25 =>
    gR s25 1021 (some this) fun v26 =>
    gR s25 1025 v26 fun v27 =>
    kd s25 this 8 <|
    bd (sX3_known s25 this v27) fun s29 v30 =>
    pI s29 72 (some a12) v30 fun s32 =>
    kd s32 this 8 <|
    bp (sX3_isOver s32 this) fun v34 =>
    bp (
    if v34 = 0 then
    (gI s32 71 (some a12) fun v71 =>
    gI s32 72 (some a12) fun v72 =>
    if v71 = v72 then
    (kd s32 this 8 <|
    bp (sX3_wrong s32 this 3) fun s74 =>
    some s74)
    else
    (some s32))
    else
    (some s32)) fun (s36 : St) =>
    kd s36 this 8 <|
    bp (sX3_on s36 this) fun s38 =>
    kd s38 this 8 <|
    bp (sX3_needs s38 this (s38.ks 1)) fun s41 =>
    gR s41 1021 (some this) fun v43 =>
    gR s41 1024 v43 fun v44 =>
    kd s41 this 8 <|
    bd (sX3_told s41 this v44) fun s46 v47 =>
    pI s46 73 (some a12) v47 fun s49 =>
    kd s49 this 8 <|
    bd (sX3_part s49 this (s49.ks 8) 0 59) fun s51 v52 =>
    pI s51 74 (some a12) v52 fun s54 =>
    kd s54 this 8 <|
    bd (sX3_part s54 this (s54.ks 11) 1 99) fun s56 v57 =>
    pI s56 75 (some a12) v57 fun s59 =>
    kd s59 this 8 <|
    bp (sX3_isOver s59 this) fun v61 =>
    if v61 = 0 then
    (gR s59 1021 (some this) fun v63 =>
    gR s59 1026 v63 fun v64 =>
    iv s59 6 v64 fun w65 =>
    bd (sJ2_add s59 w65 (some a12)) fun s68 v69 =>
    some s68)
    else
    (some s59)
def sX3_hire (s0 : St) (this : Nat) : Option St :=
    kd s0 this 8 <|
    bp (sX3_begins s0 this (-1) 0) fun s2 =>
    gR s2 1021 (some this) fun v4 =>
    gR s2 1025 v4 fun v5 =>
    kd s2 this 8 <|
    bd (sX3_known s2 this v5) fun s7 v8 =>
    kd s7 this 8 <|
    bp (sX3_isOver s7 this) fun v11 =>
    bp (
    if v11 = 0 then
    (gR s7 1021 (some this) fun v34 =>
    iv s7 10 v34 fun w35 =>
    bp (sX5_person s7 w35 v8) fun v38 =>
    gI s7 69 v38 fun v40 =>
    if v40 = (-2) then
    (some s7)
    else
    (kd s7 this 8 <|
    bp (sX3_wrong s7 this 3) fun s42 =>
    some s42))
    else
    (some s7)) fun (s13 : St) =>
    kd s13 this 8 <|
    bp (sX3_on s13 this) fun s15 =>
    kd s15 this 8 <|
    bd (sX3_part s15 this (s15.ks 7) 0 20) fun s18 v19 =>
    kd s18 this 8 <|
    bp (sX3_isOver s18 this) fun v22 =>
    if v22 = 0 then
    (gR s18 1021 (some this) fun v24 =>
    iv s18 10 v24 fun w25 =>
    bp (sX5_person s18 w25 v8) fun v28 =>
    pI s18 69 v28 v19 fun s30 =>
    gR s30 1021 (some this) fun v31 =>
    gI s30 51 v31 fun v32 =>
    pI s30 51 v31 (v32 + 1) fun s33 =>
    some s33)
    else
    (some s18)
def sX3_unsure (s0 : St) (this : Nat) : Option St :=
    gR s0 1021 (some this) fun v1 =>
    gI s0 52 v1 fun v2 =>
    kd s0 this 8 <|
    bp (sX3_begins s0 this v2 4) fun s4 =>
    gR s4 1021 (some this) fun v6 =>
    gR s4 1025 v6 fun v7 =>
    kd s4 this 8 <|
    bd (sX3_known s4 this v7) fun s9 v10 =>
    kd s9 this 8 <|
    bp (sX3_isOver s9 this) fun v13 =>
    bp (
    if v13 = 0 then
    (gR s9 1021 (some this) fun v48 =>
    iv s9 10 v48 fun w49 =>
    bp (sX5_person s9 w49 v10) fun v52 =>
    gI s9 70 v52 fun v54 =>
    if v54 = 0 then
    (some s9)
    else
    (kd s9 this 8 <|
    bp (sX3_wrong s9 this 3) fun s56 =>
    some s56))
    else
    (some s9)) fun (s15 : St) =>
    kd s15 this 8 <|
    bp (sX3_on s15 this) fun s17 =>
    kd s17 this 8 <|
    bd (sX3_whole s17 this 0 9) fun s20 v21 =>
    kd s20 this 8 <|
    bp (sX3_isOver s20 this) fun v24 =>
    if v24 = 0 then
    (gR s20 1021 (some this) fun v26 =>
    iv s20 10 v26 fun w27 =>
    bp (sX5_person s20 w27 v10) fun v30 =>
    pI s20 70 v30 1 fun s32 =>
    gR s32 1021 (some this) fun v33 =>
    iv s32 10 v33 fun w34 =>
    bp (sX5_person s32 w34 v10) fun v37 =>
    pI s32 67 v37 v21 fun s39 =>
    gR s39 1021 (some this) fun v40 =>
    gR s39 1028 v40 fun v41 =>
    gR s39 1021 (some this) fun v42 =>
    gI s39 52 v42 fun v43 =>
    tI s39 v41 v43 v10 fun s44 =>
    gR s44 1021 (some this) fun v45 =>
    gI s44 52 v45 fun v46 =>
    pI s44 52 v45 (v46 + 1) fun s47 =>
    some s47)
    else
    (some s20)
def sX5_quarrel (s0 : St) (this : Nat) (p0 : Int32) : Option (Option Nat) :=
    gR s0 1026 (some this) fun v1 =>
    iv s0 6 v1 fun w2 =>
    bp (sJ2_get s0 w2 p0) fun v5 =>
    ck s0 [20] v5 <|
    some v5
def sX3_ended (s0 : St) (this : Nat) : Option St :=
    kd s0 this 8 <|
    bp (sX3_begins s0 this (-1) 0) fun s2 =>
    gR s2 1021 (some this) fun v4 =>
    gR s2 1026 v4 fun v5 =>
    kd s2 this 8 <|
    bd (sX3_known s2 this v5) fun s7 v8 =>
    kd s7 this 8 <|
    bp (sX3_isOver s7 this) fun v11 =>
    bp (
    if v11 = 0 then
    (gR s7 1021 (some this) fun v34 =>
    iv s7 10 v34 fun w35 =>
    bp (sX5_quarrel s7 w35 v8) fun v38 =>
    gI s7 76 v38 fun v40 =>
    if v40 = (-1) then
    (some s7)
    else
    (kd s7 this 8 <|
    bp (sX3_wrong s7 this 3) fun s42 =>
    some s42))
    else
    (some s7)) fun (s13 : St) =>
    kd s13 this 8 <|
    bp (sX3_on s13 this) fun s15 =>
    kd s15 this 8 <|
    bd (sX3_part s15 this (s15.ks 1) 0 59) fun s18 v19 =>
    kd s18 this 8 <|
    bp (sX3_isOver s18 this) fun v22 =>
    if v22 = 0 then
    (gR s18 1021 (some this) fun v24 =>
    iv s18 10 v24 fun w25 =>
    bp (sX5_quarrel s18 w25 v8) fun v28 =>
    pI s18 76 v28 v19 fun s30 =>
    gR s30 1021 (some this) fun v31 =>
    gI s30 53 v31 fun v32 =>
    pI s30 53 v31 (v32 + 1) fun s33 =>
    some s33)
    else
    (some s18)
def sX3_line (s0 : St) (this : Nat) : Option St :=
    gR s0 1022 (some this) fun v1 =>
    gI s0 54 v1 fun v2 =>
    bp (
    if v2 = 2 then
    (gR s0 1022 (some this) fun v124 =>
    gR s0 1029 v124 fun v125 =>
    some v125)
    else
    (some (s0.ks 0))) fun (v3 : Option Nat) =>
    iv s0 13 v3 fun w4 =>
    bd (sJ5_hashCode s0 w4) fun s7 v8 =>
    bp (
    if v8 = (-991716523) then
    (iv s7 13 v3 fun w59 =>
    bp (sJ5_equals s7 w59 (s7.ks 12)) fun v62 =>
    if v62 = 0 then
    (some (-1))
    else
    (some 3))
    else
    (if v8 = (-840227282) then
    (iv s7 13 v3 fun w66 =>
    bp (sJ5_equals s7 w66 (s7.ks 18)) fun v69 =>
    if v69 = 0 then
    (some (-1))
    else
    (some 7))
    else
    (if v8 = 3178390 then
    (iv s7 13 v3 fun w73 =>
    bp (sJ5_equals s7 w73 (s7.ks 9)) fun v76 =>
    if v76 = 0 then
    (some (-1))
    else
    (some 4))
    else
    (if v8 = 3202804 then
    (iv s7 13 v3 fun w80 =>
    bp (sJ5_equals s7 w80 (s7.ks 10)) fun v83 =>
    if v83 = 0 then
    (some (-1))
    else
    (some 6))
    else
    (if v8 = 3526272 then
    (iv s7 13 v3 fun w87 =>
    bp (sJ5_equals s7 w87 (s7.ks 16)) fun v90 =>
    if v90 = 0 then
    (some (-1))
    else
    (some 2))
    else
    (if v8 = 3566226 then
    (iv s7 13 v3 fun w94 =>
    bp (sJ5_equals s7 w94 (s7.ks 17)) fun v97 =>
    if v97 = 0 then
    (some (-1))
    else
    (some 0))
    else
    (if v8 = 96651962 then
    (iv s7 13 v3 fun w101 =>
    bp (sJ5_equals s7 w101 (s7.ks 6)) fun v104 =>
    if v104 = 0 then
    (some (-1))
    else
    (some 8))
    else
    (if v8 = 106748167 then
    (iv s7 13 v3 fun w108 =>
    bp (sJ5_equals s7 w108 (s7.ks 13)) fun v111 =>
    if v111 = 0 then
    (some (-1))
    else
    (some 1))
    else
    (if v8 = 651402020 then
    (iv s7 13 v3 fun w115 =>
    bp (sJ5_equals s7 w115 (s7.ks 15)) fun v118 =>
    if v118 = 0 then
    (some (-1))
    else
    (some 5))
    else
    (some (-1))))))))))) fun (v10 : Int32) =>
    if v10 = 0 then
    (kd s7 this 8 <|
    bp (sX3_townLine s7 this) fun s12 =>
    some s12)
    else
    (if v10 = 1 then
    (kd s7 this 8 <|
    bp (sX3_place s7 this) fun s17 =>
    some s17)
    else
    (if v10 = 2 then
    (kd s7 this 8 <|
    bp (sX3_sees s7 this) fun s22 =>
    some s22)
    else
    (if v10 = 3 then
    (kd s7 this 8 <|
    bp (sX3_person s7 this) fun s27 =>
    some s27)
    else
    (if v10 = 4 then
    (kd s7 this 8 <|
    bp (sX3_goes s7 this) fun s32 =>
    some s32)
    else
    (if v10 = 5 then
    (kd s7 this 8 <|
    bp (sX3_quarrel s7 this) fun s37 =>
    some s37)
    else
    (if v10 = 6 then
    (kd s7 this 8 <|
    bp (sX3_hire s7 this) fun s42 =>
    some s42)
    else
    (if v10 = 7 then
    (kd s7 this 8 <|
    bp (sX3_unsure s7 this) fun s47 =>
    some s47)
    else
    (if v10 = 8 then
    (kd s7 this 8 <|
    bp (sX3_ended s7 this) fun s52 =>
    some s52)
    else
    (kd s7 this 8 <|
    bp (sX3_wrong s7 this 1) fun s57 =>
    some s57)))))))))
def sX3_eatsSemicolon (s0 : St) (this : Nat) : Option (St × Int32) :=
    kd s0 this 8 <|
    bp (sX3_isOver s0 this) fun v2 =>
    if v2 = 0 then
    (gR s0 1022 (some this) fun v4 =>
    gI s0 54 v4 fun v5 =>
    if v5 = 4 then
    (kd s0 this 8 <|
    bp (sX3_on s0 this) fun s7 =>
    some (s7, 1))
    else
    (some (s0, 0)))
    else
    (some (s0, 0))
def sJ2_isEmpty (s0 : St) (this : Nat) : Option Int32 :=
    gI s0 18 (some this) fun v1 =>
    if v1 = 0 then
    (some 1)
    else
    (some 0)
def sX3_read_L0 (this : Nat) : Nat → St → Option (St)
  | 0, _ => none
  | n + 1, s1 =>
    kd s1 this 8 <|
    bp (sX3_line s1 this) fun s4 =>
    kd s4 this 8 <|
    bd (sX3_eatsSemicolon s4 this) fun s7 v8 =>
    if v8 = 0 then
    (some s7)
    else
    (sX3_read_L0 this n s7)
def sX3_read (s0 : St) (this : Nat) : Option (St × Option Nat) :=
    bp (sX3_read_L0 this FU s0) fun (s10 : St) =>
    gR s10 1022 (some this) fun v11 =>
    gI s10 54 v11 fun v12 =>
    bp (
    if v12 = 1 then
    (some s10)
    else
    (kd s10 this 8 <|
    bp (sX3_wrong s10 this 1) fun s37 =>
    some s37)) fun (s13 : St) =>
    gR s13 1021 (some this) fun v14 =>
    gI s13 49 v14 fun v15 =>
    bp (
    if v15 = (-1) then
    (kd s13 this 8 <|
    bp (sX3_wrong s13 this 6) fun s22 =>
    some s22)
    else
    (gR s13 1021 (some this) fun v24 =>
    gR s13 1024 v24 fun v25 =>
    iv s13 6 v25 fun w26 =>
    bp (sJ2_isEmpty s13 w26) fun v29 =>
    if v29 = 0 then
    (some s13)
    else
    (kd s13 this 8 <|
    bp (sX3_wrong s13 this 6) fun s32 =>
    some s32))) fun (s16 : St) =>
    kd s16 this 8 <|
    bp (sX3_isOver s16 this) fun v18 =>
    if v18 = 0 then
    (gR s16 1021 (some this) fun v20 =>
    some (s16, v20))
    else
    (some (s16, none))
def sX14_init (s0 : St) (this : Nat) (p0 : Option Nat) : Option St :=
    nwA s0 2 6 fun s1 a2 =>
    pR s1 1036 (some this) (some a2) fun s3 =>
    pR s3 1035 (some this) p0 fun s4 =>
    some s4
def sX14_begins_L2 (this : Nat) : Nat → St → Int32 → Option (St)
  | 0, _, _ => none
  | n + 1, s1, v2 =>
    if 6 ≤ v2 then
    (some s1)
    else
    (gR s1 1036 (some this) fun v4 =>
    tB s1 v4 v2 (-2) fun s5 =>
    sX14_begins_L2 this n s5 (v2 + 1))
def sX14_begins (s0 : St) (this : Nat) : Option St :=
    bp (sX14_begins_L2 this FU s0 0) fun (s6 : St) =>
    pI s6 77 (some this) 0 fun s7 =>
    pI s7 78 (some this) 0 fun s8 =>
    some s8
def sX14_takes (s0 : St) (this : Nat) (p0 : Option Nat) : Option St :=
    gR s0 1036 p0 fun v1 =>
    gR s0 1036 (some this) fun v2 =>
    cpI s0 2 v1 0 v2 0 6 fun s3 =>
    gI s3 77 p0 fun v4 =>
    pI s3 77 (some this) v4 fun s5 =>
    gI s5 78 p0 fun v6 =>
    pI s5 78 (some this) v6 fun s7 =>
    some s7
def sX14_copy (s0 : St) (this : Nat) : Option (St × Option Nat) :=
    nwO s0 21 4 fun s1 a2 =>
    gR s1 1035 (some this) fun v3 =>
    bp (sX14_init s1 a2 v3) fun s4 =>
    kd s4 a2 21 <|
    bp (sX14_takes s4 a2 (some this)) fun s7 =>
    some (s7, (some a2))
def sJ2_clear_L27 (i1 : Option Nat) (i2 : Int32) : Nat → St → Int32 → Option (St)
  | 0, _, _ => none
  | n + 1, s6, v7 =>
    if i2 ≤ v7 then
    (some s6)
    else
    (tR s6 i1 v7 none fun s9 =>
    sJ2_clear_L27 i1 i2 n s9 (v7 + 1))
def sJ2_clear (s0 : St) (this : Nat) : Option St :=
    gI s0 17 (some this) fun v1 =>
    pI s0 17 (some this) (v1 + 1) fun s2 =>
    gR s2 1008 (some this) fun v3 =>
    gI s2 18 (some this) fun v4 =>
    pI s2 18 (some this) 0 fun s5 =>
    bp (sJ2_clear_L27 v3 v4 FU s5 0) fun (s10 : St) =>
    some s10
def sX1_places (s0 : St) (this : Nat) : Option Int32 :=
    gR s0 1001 (some this) fun v1 =>
    gR s0 1024 v1 fun v2 =>
    iv s0 6 v2 fun w3 =>
    bp (sJ2_size s0 w3) fun v6 =>
    some v6
def sX1_well (s0 : St) (this : Nat) (p0 : Int32) : Option (St × Int32) :=
    pI s0 3 (some this) 0 fun s1 =>
    pI s1 2 (some this) (-1) fun s2 =>
    some (s2, p0)
def sX1_town (s0 : St) (this : Nat) (p0 : Int32) : Option (St × Int32) :=
    gI s0 0 (some this) fun v1 =>
    bp (sX1_in s0 p0 0 v1) fun v2 =>
    if v2 = 0 then
    (kd s0 this 5 <|
    bd (sX1_refused s0 this 2) fun s5 v6 =>
    some (s5, v6))
    else
    (nwO s0 8 5 fun s8 a9 =>
    nwO s8 9 3 fun s10 a11 =>
    gR s10 1000 (some this) fun v12 =>
    bp (sX4_init s10 a11 v12 p0) fun s13 =>
    bp (sX3_init s13 a9 (some a11)) fun s15 =>
    pI s15 0 (some this) 0 fun s17 =>
    kd s17 a9 8 <|
    bd (sX3_read s17 a9) fun s19 v20 =>
    gI s19 45 (some a9) fun v22 =>
    pI s19 1 (some this) v22 fun s23 =>
    if v20 = none then
    (pI s23 3 (some this) 4 fun s24 =>
    gI s24 46 (some a9) fun v25 =>
    pI s24 2 (some this) v25 fun s26 =>
    some (s26, (-1)))
    else
    (pR s23 1001 (some this) v20 fun s27 =>
    nwO s27 21 4 fun s28 a29 =>
    gR s28 1001 (some this) fun v30 =>
    bp (sX14_init s28 a29 v30) fun s31 =>
    pR s31 1002 (some this) (some a29) fun s33 =>
    gR s33 1002 (some this) fun v34 =>
    iv s33 21 v34 fun w35 =>
    bp (sX14_begins s33 w35) fun s38 =>
    gR s38 1002 (some this) fun v40 =>
    iv s38 21 v40 fun w41 =>
    bd (sX14_copy s38 w41) fun s44 v45 =>
    pR s44 1003 (some this) v45 fun s47 =>
    gR s47 1004 (some this) fun v48 =>
    iv s47 6 v48 fun w49 =>
    bp (sJ2_clear s47 w49) fun s52 =>
    gR s52 1005 (some this) fun v54 =>
    iv s52 6 v54 fun w55 =>
    bp (sJ2_clear s52 w55) fun s58 =>
    kd s58 this 5 <|
    bp (sX1_places s58 this) fun v61 =>
    kd s58 this 5 <|
    bd (sX1_well s58 this v61) fun s64 v65 =>
    some (s64, v65)))
def sX2_good (s0 : St) (this : Nat) : Option St :=
    pI s0 19 (some this) 0 fun s1 =>
    pI s1 29 (some this) 0 fun s2 =>
    some s2
def sX2_in (s0 : St) (p0 : Int32) (p1 : Int32) (p2 : Int32) : Option Int32 :=
    if p0 < p1 then
    (some 0)
    else
    (if p2 < p0 then
    (some 0)
    else
    (some 1))
def sX2_no (s0 : St) (this : Nat) (p0 : Int32) : Option (St × Int32) :=
    pI s0 29 (some this) p0 fun s1 =>
    some (s1, (-1))
def sX2_see (s0 : St) (this : Nat) (p0 : Int32) : Option Int32 :=
    gI s0 21 (some this) fun v1 =>
    if v1 ≤ p0 then
    (some (-1))
    else
    (gR s0 1009 (some this) fun v2 =>
    lI s0 1 v2 p0 fun v3 =>
    some v3)
def sX2_isSmall (s0 : St) (p0 : Int32) : Option Int32 :=
    if p0 < 97 then
    (some 0)
    else
    (if 122 < p0 then
    (some 0)
    else
    (some 1))
def sX2_isDigit (s0 : St) (p0 : Int32) : Option Int32 :=
    if p0 < 48 then
    (some 0)
    else
    (if 57 < p0 then
    (some 0)
    else
    (some 1))
def sX2_next_L5 (s2 : St) (this : Nat) : Nat → Int32 → Option (Int32)
  | 0, _ => none
  | n + 1, v3 =>
    kd s2 this 7 <|
    bp (sX2_see s2 this v3) fun v6 =>
    if v6 = 32 then
    (sX2_next_L5 s2 this n (v3 + 1))
    else
    (some v3)
def sX2_next_L152 (this : Nat) : Nat → St → Int32 → Int32 → Option (St × Int32 × Int32)
  | 0, _, _, _ => none
  | n + 1, s26, v27, v28 =>
    kd s26 this 7 <|
    bp (sX2_see s26 this v27) fun v33 =>
    bp (sX2_isDigit s26 v33) fun v35 =>
    if v35 = 0 then
    (some (s26, v27, v28))
    else
    (bp (
    if 3 ≤ v28 then
    (some s26)
    else
    (gI s26 25 (some this) fun v38 =>
    kd s26 this 7 <|
    bp (sX2_see s26 this v27) fun v40 =>
    pI s26 25 (some this) (((10 * v38) + v40) - 48) fun s42 =>
    some s42)) fun (s37 : St) =>
    sX2_next_L152 this n s37 (v27 + 1) (v28 + 1))
def sX2_next_L67 (this : Nat) : Nat → St → Int32 → Option (St × Int32)
  | 0, _, _ => none
  | n + 1, s55, v56 =>
    kd s55 this 7 <|
    bp (sX2_see s55 this v56) fun v60 =>
    bp (sX2_isSmall s55 v60) fun v62 =>
    if v62 = 0 then
    (some (s55, v56))
    else
    (gI s55 26 (some this) fun v64 =>
    bp (
    if 8 ≤ v64 then
    (some s55)
    else
    (gR s55 1010 (some this) fun v68 =>
    gI s55 26 (some this) fun v69 =>
    kd s55 this 7 <|
    bp (sX2_see s55 this v56) fun v71 =>
    tI s55 v68 v69 v71 fun s73 =>
    some s73)) fun (s65 : St) =>
    gI s65 26 (some this) fun v66 =>
    pI s65 26 (some this) (v66 + 1) fun s67 =>
    sX2_next_L67 this n s67 (v56 + 1))
def sX2_next (s0 : St) (this : Nat) : Option St :=
    gI s0 23 (some this) fun v1 =>
    bp (sX2_next_L5 s0 this FU v1) fun (v8 : Int32) =>
    pI s0 22 (some this) v8 fun s9 =>
    kd s9 this 7 <|
    bp (sX2_see s9 this v8) fun v11 =>
    pI s9 26 (some this) 0 fun s13 =>
    pI s13 25 (some this) 0 fun s14 =>
    if v11 = (-1) then
    (pI s14 24 (some this) 0 fun s15 =>
    pI s15 23 (some this) v8 fun s16 =>
    some s16)
    else
    (bp (sX2_isSmall s14 v11) fun v17 =>
    if v17 = 0 then
    (bp (sX2_isDigit s14 v11) fun v19 =>
    if v19 = 0 then
    (pI s14 23 (some this) (v8 + 1) fun s21 =>
    bp (
    if v11 = 59 then
    (some v11)
    else
    (some 1)) fun (v22 : Int32) =>
    pI s21 24 (some this) v22 fun s23 =>
    some s23)
    else
    (b3 (sX2_next_L152 this FU s14 v8 0) fun (s45 : St) (v46 : Int32) (v47 : Int32) =>
    pI s45 23 (some this) v46 fun s48 =>
    bp (
    if v47 ≤ 3 then
    (some 3)
    else
    (some 1)) fun (v49 : Int32) =>
    pI s48 24 (some this) v49 fun s50 =>
    some s50))
    else
    (b2 (sX2_next_L67 this FU s14 v8) fun (s76 : St) (v77 : Int32) =>
    pI s76 23 (some this) v77 fun s78 =>
    gI s78 26 (some this) fun v79 =>
    bp (
    if v79 ≤ 8 then
    (some 2)
    else
    (some 1)) fun (v80 : Int32) =>
    pI s78 24 (some this) v80 fun s81 =>
    some s81))
def sJ5_coder (s0 : St) (this : Nat) : Option Int32 :=
    if (1 : Int32) = 0 then
    (some 1)
    else
    (gI s0 60 (some this) fun v1 =>
    ok (okB v1) <|
    some v1)
def sJ5_length (s0 : St) (this : Nat) : Option Int32 :=
    gR s0 1031 (some this) fun v1 =>
    aN s0 v1 fun v2 =>
    kd s0 this 13 <|
    bp (sJ5_coder s0 this) fun v4 =>
    some (v2 >>> (v4 &&& 31))
def sJ5_checkIndex (s0 : St) (p0 : Int32) (p1 : Int32) : Option Unit :=
    bp (sJ11_checkIndex s0 p0 p1 (s0.ks 61)) fun v1 =>
    some ()
def sJ10_charAt (s0 : St) (p0 : Option Nat) (p1 : Int32) : Option Int32 :=
    aN s0 p0 fun v1 =>
    bp (sJ5_checkIndex s0 p1 v1) fun _ =>
    lI s0 2 p0 p1 fun v3 =>
    ok (okC (((Int32.toUInt32 (v3 &&& 255)) % 65536).toInt32)) <|
    some (((Int32.toUInt32 (v3 &&& 255)) % 65536).toInt32)
def sJ5_charAt (s0 : St) (this : Nat) (p0 : Int32) : Option Int32 :=
    kd s0 this 13 <|
    bp (sJ5_isLatin1 s0 this) fun v2 =>
    if v2 = 0 then
    (none)
    else
    (gR s0 1031 (some this) fun v4 =>
    bp (sJ10_charAt s0 v4 p0) fun v5 =>
    ok (okC v5) <|
    some v5)
def sX2_isWord_L32 (s9 : St) (this : Nat) (i1 : Option Nat) : Nat → Int32 → Int32 → Option (Int32)
  | 0, _, _ => none
  | n + 1, v10, v11 =>
    gI s9 26 (some this) fun v13 =>
    if v13 ≤ v11 then
    (some v10)
    else
    (bp (
    if v10 = 0 then
    (some 0)
    else
    (gR s9 1010 (some this) fun v15 =>
    lI s9 1 v15 v11 fun v16 =>
    iv s9 13 i1 fun w17 =>
    bp (sJ5_charAt s9 w17 v11) fun v20 =>
    if v16 = v20 then
    (some 1)
    else
    (some 0))) fun (v14 : Int32) =>
    sX2_isWord_L32 s9 this i1 n v14 (v11 + 1))
def sX2_isWord (s0 : St) (this : Nat) (p0 : Option Nat) : Option Int32 :=
    gI s0 30 (some this) fun v1 =>
    if v1 = 0 then
    (gI s0 24 (some this) fun v2 =>
    if v2 = 2 then
    (gI s0 26 (some this) fun v3 =>
    iv s0 13 p0 fun w4 =>
    bp (sJ5_length s0 w4) fun v7 =>
    if v3 = v7 then
    (bp (sX2_isWord_L32 s0 this p0 FU 1 0) fun (v24 : Int32) =>
    ok (okZ v24) <|
    some v24)
    else
    (some 0))
    else
    (some 0))
    else
    (some 0)
def sX2_wrong (s0 : St) (this : Nat) (p0 : Int32) (p1 : Int32) : Option St :=
    gI s0 30 (some this) fun v1 =>
    if v1 = 0 then
    (pI s0 30 (some this) 1 fun s2 =>
    pI s2 27 (some this) p0 fun s3 =>
    pI s3 28 (some this) p1 fun s4 =>
    some s4)
    else
    (some s0)
def sX2_takesWord (s0 : St) (this : Nat) (p0 : Option Nat) : Option (St × Int32) :=
    kd s0 this 7 <|
    bp (sX2_isWord s0 this p0) fun v2 =>
    if v2 = 0 then
    (some (s0, 0))
    else
    (kd s0 this 7 <|
    bp (sX2_next s0 this) fun s5 =>
    some (s5, 1))
def sX2_must (s0 : St) (this : Nat) (p0 : Option Nat) : Option St :=
    gI s0 30 (some this) fun v1 =>
    if v1 = 0 then
    (kd s0 this 7 <|
    bd (sX2_takesWord s0 this p0) fun s3 v4 =>
    if v4 = 0 then
    (gI s3 22 (some this) fun v6 =>
    kd s3 this 7 <|
    bp (sX2_wrong s3 this 1 v6) fun s8 =>
    some s8)
    else
    (some s3))
    else
    (some s0)
def sX2_numberHere (s0 : St) (this : Nat) (p0 : Int32) (p1 : Int32) : Option (St × Int32) :=
    gI s0 30 (some this) fun v1 =>
    if v1 = 0 then
    (gI s0 24 (some this) fun v2 =>
    bp (
    if v2 = 3 then
    (gI s0 25 (some this) fun v6 =>
    bp (sX2_in s0 v6 p0 p1) fun v7 =>
    if v7 = 0 then
    (gI s0 22 (some this) fun v9 =>
    kd s0 this 7 <|
    bp (sX2_wrong s0 this 4 v9) fun s11 =>
    some s11)
    else
    (some s0))
    else
    (gI s0 22 (some this) fun v13 =>
    kd s0 this 7 <|
    bp (sX2_wrong s0 this 1 v13) fun s15 =>
    some s15)) fun (s3 : St) =>
    gI s3 30 (some this) fun v4 =>
    if v4 = 0 then
    (gI s3 25 (some this) fun v5 =>
    some (s3, v5))
    else
    (some (s3, p0)))
    else
    (some (s0, p0))
def sX2_pass (s0 : St) (this : Nat) : Option St :=
    gI s0 30 (some this) fun v1 =>
    if v1 = 0 then
    (kd s0 this 7 <|
    bp (sX2_next s0 this) fun s3 =>
    some s3)
    else
    (some s0)
def sX2_number (s0 : St) (this : Nat) (p0 : Int32) (p1 : Int32) : Option (St × Int32) :=
    kd s0 this 7 <|
    bd (sX2_numberHere s0 this p0 p1) fun s2 v3 =>
    kd s2 this 7 <|
    bp (sX2_pass s2 this) fun s6 =>
    some (s6, v3)
def sX2_after (s0 : St) (this : Nat) (p0 : Option Nat) (p1 : Int32) (p2 : Int32) : Option (St × Int32) :=
    kd s0 this 7 <|
    bp (sX2_must s0 this p0) fun s2 =>
    kd s2 this 7 <|
    bd (sX2_number s2 this p1 p2) fun s5 v6 =>
    some (s5, v6)
def sX2_townLine (s0 : St) (this : Nat) : Option St :=
    gR s0 1012 (some this) fun v1 =>
    lI s0 1 v1 9 fun v2 =>
    bp (
    if v2 ≤ 0 then
    (some s0)
    else
    (gI s0 22 (some this) fun v17 =>
    kd s0 this 7 <|
    bp (sX2_wrong s0 this 3 v17) fun s19 =>
    some s19)) fun (s3 : St) =>
    gI s3 30 (some this) fun v4 =>
    if v4 = 0 then
    (kd s3 this 7 <|
    bp (sX2_next s3 this) fun s6 =>
    gR s6 1012 (some this) fun v8 =>
    kd s6 this 7 <|
    bd (sX2_after s6 this (s6.ks 4) 0 100) fun s10 v11 =>
    tI s10 v8 0 v11 fun s13 =>
    gI s13 30 (some this) fun v14 =>
    if v14 = 0 then
    (gR s13 1012 (some this) fun v15 =>
    tI s13 v15 9 1 fun s16 =>
    some s16)
    else
    (some s13))
    else
    (some s3)
def sX2_begins (s0 : St) (this : Nat) (p0 : Option Nat) (p1 : Int32) : Option (St × Int32) :=
    kd s0 this 7 <|
    bp (sX2_isWord s0 this p0) fun v2 =>
    if v2 = 0 then
    (some (s0, 0))
    else
    (bp (
    if p1 = 0 then
    (gI s0 22 (some this) fun v17 =>
    kd s0 this 7 <|
    bp (sX2_wrong s0 this 5 v17) fun s19 =>
    some s19)
    else
    (some s0)) fun (s4 : St) =>
    gR s4 1012 (some this) fun v5 =>
    lI s4 1 v5 9 fun v6 =>
    bp (
    if v6 = 0 then
    (gI s4 22 (some this) fun v11 =>
    kd s4 this 7 <|
    bp (sX2_wrong s4 this 6 v11) fun s13 =>
    some s13)
    else
    (some s4)) fun (s7 : St) =>
    kd s7 this 7 <|
    bp (sX2_pass s7 this) fun s9 =>
    some (s9, 1))
def sX2_mustName (s0 : St) (this : Nat) : Option St :=
    gI s0 24 (some this) fun v1 =>
    if v1 = 2 then
    (kd s0 this 7 <|
    bp (sX2_isWord s0 this (s0.ks 17)) fun v3 =>
    if v3 = 0 then
    (kd s0 this 7 <|
    bp (sX2_isWord s0 this (s0.ks 13)) fun v6 =>
    if v6 = 0 then
    (kd s0 this 7 <|
    bp (sX2_isWord s0 this (s0.ks 16)) fun v9 =>
    if v9 = 0 then
    (kd s0 this 7 <|
    bp (sX2_isWord s0 this (s0.ks 12)) fun v12 =>
    if v12 = 0 then
    (kd s0 this 7 <|
    bp (sX2_isWord s0 this (s0.ks 9)) fun v15 =>
    if v15 = 0 then
    (kd s0 this 7 <|
    bp (sX2_isWord s0 this (s0.ks 15)) fun v18 =>
    if v18 = 0 then
    (kd s0 this 7 <|
    bp (sX2_isWord s0 this (s0.ks 10)) fun v21 =>
    if v21 = 0 then
    (kd s0 this 7 <|
    bp (sX2_isWord s0 this (s0.ks 18)) fun v24 =>
    if v24 = 0 then
    (kd s0 this 7 <|
    bp (sX2_isWord s0 this (s0.ks 6)) fun v27 =>
    if v27 = 0 then
    (some s0)
    else
    (gI s0 22 (some this) fun v29 =>
    kd s0 this 7 <|
    bp (sX2_wrong s0 this 1 v29) fun s31 =>
    some s31))
    else
    (gI s0 22 (some this) fun v33 =>
    kd s0 this 7 <|
    bp (sX2_wrong s0 this 1 v33) fun s35 =>
    some s35))
    else
    (gI s0 22 (some this) fun v37 =>
    kd s0 this 7 <|
    bp (sX2_wrong s0 this 1 v37) fun s39 =>
    some s39))
    else
    (gI s0 22 (some this) fun v41 =>
    kd s0 this 7 <|
    bp (sX2_wrong s0 this 1 v41) fun s43 =>
    some s43))
    else
    (gI s0 22 (some this) fun v45 =>
    kd s0 this 7 <|
    bp (sX2_wrong s0 this 1 v45) fun s47 =>
    some s47))
    else
    (gI s0 22 (some this) fun v49 =>
    kd s0 this 7 <|
    bp (sX2_wrong s0 this 1 v49) fun s51 =>
    some s51))
    else
    (gI s0 22 (some this) fun v53 =>
    kd s0 this 7 <|
    bp (sX2_wrong s0 this 1 v53) fun s55 =>
    some s55))
    else
    (gI s0 22 (some this) fun v57 =>
    kd s0 this 7 <|
    bp (sX2_wrong s0 this 1 v57) fun s59 =>
    some s59))
    else
    (gI s0 22 (some this) fun v61 =>
    kd s0 this 7 <|
    bp (sX2_wrong s0 this 1 v61) fun s63 =>
    some s63))
    else
    (gI s0 22 (some this) fun v65 =>
    kd s0 this 7 <|
    bp (sX2_wrong s0 this 1 v65) fun s67 =>
    some s67)
def sX2_find_L44 (s6 : St) (this : Nat) (i1 : Int32) : Nat → Int32 → Int32 → Option (Int32)
  | 0, _, _ => none
  | n + 1, v7, v8 =>
    gI s6 26 (some this) fun v10 =>
    if v10 ≤ v8 then
    (some v7)
    else
    (if v7 = 0 then
    (some v7)
    else
    (gR s6 1012 (some this) fun v11 =>
    lI s6 1 v11 ((121 + (8 * i1)) + v8) fun v12 =>
    gR s6 1010 (some this) fun v13 =>
    lI s6 1 v13 v8 fun v14 =>
    bp (
    if v12 = v14 then
    (some 1)
    else
    (some 0)) fun (v15 : Int32) =>
    sX2_find_L44 s6 this i1 n v15 (v8 + 1)))
def sX2_find_L2 (s1 : St) (this : Nat) : Nat → Int32 → Option (Int32 ⊕ (Unit))
  | 0, _ => none
  | n + 1, v2 =>
    if 15 ≤ v2 then
    (some (.inr ()))
    else
    (gR s1 1012 (some this) fun v3 =>
    lI s1 1 v3 (106 + v2) fun v4 =>
    bp (
    if v4 ≤ 0 then
    (some 0)
    else
    (gR s1 1012 (some this) fun v21 =>
    lI s1 1 v21 (106 + v2) fun v22 =>
    gI s1 26 (some this) fun v23 =>
    if v22 = v23 then
    (some 1)
    else
    (some 0))) fun (v5 : Int32) =>
    bp (sX2_find_L44 s1 this v2 FU v5 0) fun (v18 : Int32) =>
    if v18 = 0 then
    (sX2_find_L2 s1 this n (v2 + 1))
    else
    (some (.inl v2)))
def sX2_find (s0 : St) (this : Nat) : Option Int32 :=
    lc (sX2_find_L2 s0 this FU 0) fun _ =>
    some (-1)
def sX2_newName_L45 (this : Nat) (i1 : Int32) : Nat → St → Int32 → Option (St)
  | 0, _, _ => none
  | n + 1, s8, v9 =>
    gI s8 26 (some this) fun v11 =>
    if v11 ≤ v9 then
    (some s8)
    else
    (gR s8 1012 (some this) fun v12 =>
    gR s8 1010 (some this) fun v13 =>
    lI s8 1 v13 v9 fun v14 =>
    tI s8 v12 ((121 + (8 * i1)) + v9) v14 fun s15 =>
    sX2_newName_L45 this i1 n s15 (v9 + 1))
def sX2_newName (s0 : St) (this : Nat) (p0 : Int32) : Option St :=
    gI s0 30 (some this) fun v1 =>
    if v1 = 0 then
    (kd s0 this 7 <|
    bp (sX2_mustName s0 this) fun s3 =>
    gI s3 30 (some this) fun v5 =>
    bp (
    if v5 = 0 then
    (kd s3 this 7 <|
    bp (sX2_find s3 this) fun v26 =>
    if v26 < 0 then
    (some s3)
    else
    (gI s3 22 (some this) fun v28 =>
    kd s3 this 7 <|
    bp (sX2_wrong s3 this 3 v28) fun s30 =>
    some s30))
    else
    (some s3)) fun (s6 : St) =>
    gI s6 30 (some this) fun v7 =>
    if v7 = 0 then
    (bp (sX2_newName_L45 this p0 FU s6 0) fun (s16 : St) =>
    gR s16 1012 (some this) fun v17 =>
    gI s16 26 (some this) fun v18 =>
    tI s16 v17 (106 + p0) v18 fun s19 =>
    kd s19 this 7 <|
    bp (sX2_next s19 this) fun s21 =>
    some s21)
    else
    (some s6))
    else
    (some s0)
def sX2_placeLine (s0 : St) (this : Nat) : Option St :=
    gI s0 30 (some this) fun v1 =>
    if v1 = 0 then
    (gR s0 1012 (some this) fun v2 =>
    lI s0 1 v2 1 fun v3 =>
    kd s0 this 7 <|
    bp (sX2_newName s0 this v3) fun s5 =>
    gI s5 30 (some this) fun v7 =>
    if v7 = 0 then
    (gR s5 1012 (some this) fun v8 =>
    lI s5 1 v8 1 fun v9 =>
    tI s5 v8 1 (v9 + 1) fun s10 =>
    some s10)
    else
    (some s5))
    else
    (some s0)
def sX2_named (s0 : St) (this : Nat) (p0 : Int32) (p1 : Int32) : Option (St × Int32) :=
    gI s0 30 (some this) fun v1 =>
    if v1 = 0 then
    (kd s0 this 7 <|
    bp (sX2_mustName s0 this) fun s3 =>
    gI s3 30 (some this) fun v5 =>
    if v5 = 0 then
    (kd s3 this 7 <|
    bp (sX2_find s3 this) fun v7 =>
    bp (sX2_in s3 v7 p0 p1) fun v9 =>
    bp (
    if v9 = 0 then
    (gI s3 22 (some this) fun v13 =>
    kd s3 this 7 <|
    bp (sX2_wrong s3 this 2 v13) fun s15 =>
    some s15)
    else
    (some s3)) fun (s11 : St) =>
    gI s11 30 (some this) fun v12 =>
    if v12 = 0 then
    (some (s11, (v7 - p0)))
    else
    (some (s11, 0)))
    else
    (some (s3, 0)))
    else
    (some (s0, 0))
def sX2_placeHere (s0 : St) (this : Nat) : Option (St × Int32) :=
    kd s0 this 7 <|
    bd (sX2_named s0 this 0 5) fun s2 v3 =>
    some (s2, v3)
def sX2_placePassed (s0 : St) (this : Nat) : Option (St × Int32) :=
    kd s0 this 7 <|
    bd (sX2_placeHere s0 this) fun s2 v3 =>
    kd s2 this 7 <|
    bp (sX2_pass s2 this) fun s6 =>
    some (s6, v3)
def sX2_seesLine_L45 (s13 : St) (this : Nat) (i2 : Int32) (i3 : Int32) : Nat → Int32 → Int32 → Option (Int32)
  | 0, _, _ => none
  | n + 1, v14, v15 =>
    gR s13 1012 (some this) fun v17 =>
    lI s13 1 v17 2 fun v18 =>
    if v18 ≤ v15 then
    (some v14)
    else
    (bp (
    if v14 = 0 then
    (gR s13 1012 (some this) fun v20 =>
    lI s13 1 v20 (10 + (2 * v15)) fun v21 =>
    if v21 = i2 then
    (gR s13 1012 (some this) fun v22 =>
    lI s13 1 v22 ((10 + (2 * v15)) + 1) fun v23 =>
    if v23 = i3 then
    (some 1)
    else
    (some 0))
    else
    (some 0))
    else
    (some 1)) fun (v19 : Int32) =>
    sX2_seesLine_L45 s13 this i2 i3 n v19 (v15 + 1))
def sX2_seesLine (s0 : St) (this : Nat) : Option St :=
    gI s0 30 (some this) fun v1 =>
    if v1 = 0 then
    (gR s0 1012 (some this) fun v2 =>
    lI s0 1 v2 2 fun v3 =>
    kd s0 this 7 <|
    bd (sX2_placePassed s0 this) fun s5 v6 =>
    kd s5 this 7 <|
    bd (sX2_placeHere s5 this) fun s9 v10 =>
    bp (
    if v6 = v10 then
    (some 1)
    else
    (some 0)) fun (v12 : Int32) =>
    bp (sX2_seesLine_L45 s9 this v6 v10 FU v12 0) fun (v26 : Int32) =>
    gI s9 30 (some this) fun v27 =>
    bp (
    if v27 = 0 then
    (if v26 = 0 then
    (some s9)
    else
    (gI s9 22 (some this) fun v40 =>
    kd s9 this 7 <|
    bp (sX2_wrong s9 this 3 v40) fun s42 =>
    some s42))
    else
    (some s9)) fun (s28 : St) =>
    kd s28 this 7 <|
    bp (sX2_pass s28 this) fun s30 =>
    gI s30 30 (some this) fun v32 =>
    if v32 = 0 then
    (gR s30 1012 (some this) fun v33 =>
    tI s30 v33 (10 + (2 * v3)) v6 fun s34 =>
    gR s34 1012 (some this) fun v35 =>
    tI s34 v35 ((10 + (2 * v3)) + 1) v10 fun s36 =>
    gR s36 1012 (some this) fun v37 =>
    lI s36 1 v37 2 fun v38 =>
    tI s36 v37 2 (v38 + 1) fun s39 =>
    some s39)
    else
    (some s30))
    else
    (some s0)
def sX2_personLine (s0 : St) (this : Nat) : Option St :=
    gI s0 30 (some this) fun v1 =>
    if v1 = 0 then
    (gR s0 1012 (some this) fun v2 =>
    lI s0 1 v2 3 fun v3 =>
    gR s0 1012 (some this) fun v4 =>
    lI s0 1 v4 3 fun v5 =>
    kd s0 this 7 <|
    bp (sX2_newName s0 this (6 + v5)) fun s7 =>
    kd s7 this 7 <|
    bp (sX2_isWord s7 this (s7.ks 14)) fun v10 =>
    bp (
    if v10 = 0 then
    (kd s7 this 7 <|
    bp (sX2_isWord s7 this (s7.ks 5)) fun v45 =>
    if v45 = 0 then
    (kd s7 this 7 <|
    bp (sX2_isWord s7 this (s7.ks 3)) fun v48 =>
    if v48 = 0 then
    (kd s7 this 7 <|
    bp (sX2_isWord s7 this (s7.ks 2)) fun v51 =>
    if v51 = 0 then
    (some (-1))
    else
    (some 3))
    else
    (some 2))
    else
    (some 1))
    else
    (some 0)) fun (v12 : Int32) =>
    bp (
    if 0 ≤ v12 then
    (some s7)
    else
    (gI s7 22 (some this) fun v38 =>
    kd s7 this 7 <|
    bp (sX2_wrong s7 this 1 v38) fun s40 =>
    some s40)) fun (s13 : St) =>
    kd s13 this 7 <|
    bp (sX2_pass s13 this) fun s15 =>
    kd s15 this 7 <|
    bp (sX2_must s15 this (s15.ks 1)) fun s18 =>
    kd s18 this 7 <|
    bd (sX2_placePassed s18 this) fun s21 v22 =>
    kd s21 this 7 <|
    bd (sX2_after s21 this (s21.ks 19) 0 9) fun s25 v26 =>
    gI s25 30 (some this) fun v28 =>
    if v28 = 0 then
    (gR s25 1012 (some this) fun v29 =>
    tI s25 v29 (26 + (4 * v3)) v12 fun s30 =>
    gR s30 1012 (some this) fun v31 =>
    tI s30 v31 ((26 + (4 * v3)) + 1) v22 fun s32 =>
    gR s32 1012 (some this) fun v33 =>
    tI s32 v33 ((26 + (4 * v3)) + 2) v26 fun s34 =>
    gR s34 1012 (some this) fun v35 =>
    lI s34 1 v35 3 fun v36 =>
    tI s34 v35 3 (v36 + 1) fun s37 =>
    some s37)
    else
    (some s25))
    else
    (some s0)
def sX2_personHere (s0 : St) (this : Nat) : Option (St × Int32) :=
    kd s0 this 7 <|
    bd (sX2_named s0 this 6 11) fun s2 v3 =>
    some (s2, v3)
def sX2_goesLine_L52 (this : Nat) (i2 : Int32) (i4 : Int32) : Nat → St → Int32 → Option (St)
  | 0, _, _ => none
  | n + 1, s22, v23 =>
    gR s22 1012 (some this) fun v25 =>
    lI s22 1 v25 4 fun v26 =>
    if v26 ≤ v23 then
    (some s22)
    else
    (gI s22 30 (some this) fun v27 =>
    bp (
    if v27 = 0 then
    (gR s22 1012 (some this) fun v29 =>
    lI s22 1 v29 (50 + (3 * v23)) fun v30 =>
    if v30 = i2 then
    (gR s22 1012 (some this) fun v31 =>
    lI s22 1 v31 ((50 + (3 * v23)) + 2) fun v32 =>
    if v32 < i4 then
    (some s22)
    else
    (gI s22 22 (some this) fun v33 =>
    kd s22 this 7 <|
    bp (sX2_wrong s22 this 7 v33) fun s35 =>
    some s35))
    else
    (some s22))
    else
    (some s22)) fun (s28 : St) =>
    sX2_goesLine_L52 this i2 i4 n s28 (v23 + 1))
def sX2_goesLine (s0 : St) (this : Nat) : Option St :=
    gI s0 30 (some this) fun v1 =>
    if v1 = 0 then
    (gR s0 1012 (some this) fun v2 =>
    lI s0 1 v2 4 fun v3 =>
    kd s0 this 7 <|
    bd (sX2_personHere s0 this) fun s5 v6 =>
    kd s5 this 7 <|
    bp (sX2_pass s5 this) fun s9 =>
    kd s9 this 7 <|
    bd (sX2_placePassed s9 this) fun s12 v13 =>
    kd s12 this 7 <|
    bp (sX2_must s12 this (s12.ks 1)) fun s16 =>
    kd s16 this 7 <|
    bd (sX2_numberHere s16 this 1 59) fun s19 v20 =>
    bp (sX2_goesLine_L52 this v6 v20 FU s19 0) fun (s39 : St) =>
    kd s39 this 7 <|
    bp (sX2_pass s39 this) fun s41 =>
    gI s41 30 (some this) fun v43 =>
    if v43 = 0 then
    (gR s41 1012 (some this) fun v44 =>
    tI s41 v44 (50 + (3 * v3)) v6 fun s45 =>
    gR s45 1012 (some this) fun v46 =>
    tI s45 v46 ((50 + (3 * v3)) + 1) v13 fun s47 =>
    gR s47 1012 (some this) fun v48 =>
    tI s47 v48 ((50 + (3 * v3)) + 2) v20 fun s49 =>
    gR s49 1012 (some this) fun v50 =>
    lI s49 1 v50 4 fun v51 =>
    tI s49 v50 4 (v51 + 1) fun s52 =>
    some s52)
    else
    (some s41))
    else
    (some s0)
def sX2_quarrelLine (s0 : St) (this : Nat) : Option St :=
    gI s0 30 (some this) fun v1 =>
    if v1 = 0 then
    (gR s0 1012 (some this) fun v2 =>
    lI s0 1 v2 5 fun v3 =>
    gR s0 1012 (some this) fun v4 =>
    lI s0 1 v4 5 fun v5 =>
    kd s0 this 7 <|
    bp (sX2_newName s0 this (12 + v5)) fun s7 =>
    kd s7 this 7 <|
    bd (sX2_personHere s7 this) fun s10 v11 =>
    kd s10 this 7 <|
    bp (sX2_pass s10 this) fun s14 =>
    kd s14 this 7 <|
    bd (sX2_personHere s14 this) fun s17 v18 =>
    gI s17 30 (some this) fun v20 =>
    bp (
    if v20 = 0 then
    (if v11 = v18 then
    (gI s17 22 (some this) fun v54 =>
    kd s17 this 7 <|
    bp (sX2_wrong s17 this 3 v54) fun s56 =>
    some s56)
    else
    (some s17))
    else
    (some s17)) fun (s21 : St) =>
    kd s21 this 7 <|
    bp (sX2_pass s21 this) fun s23 =>
    kd s23 this 7 <|
    bp (sX2_must s23 this (s23.ks 1)) fun s26 =>
    kd s26 this 7 <|
    bd (sX2_placePassed s26 this) fun s29 v30 =>
    kd s29 this 7 <|
    bd (sX2_after s29 this (s29.ks 8) 0 59) fun s33 v34 =>
    kd s33 this 7 <|
    bd (sX2_after s33 this (s33.ks 11) 1 99) fun s37 v38 =>
    gI s37 30 (some this) fun v40 =>
    if v40 = 0 then
    (gR s37 1012 (some this) fun v41 =>
    tI s37 v41 (80 + (5 * v3)) v11 fun s42 =>
    gR s42 1012 (some this) fun v43 =>
    tI s42 v43 ((80 + (5 * v3)) + 1) v18 fun s44 =>
    gR s44 1012 (some this) fun v45 =>
    tI s44 v45 ((80 + (5 * v3)) + 2) v30 fun s46 =>
    gR s46 1012 (some this) fun v47 =>
    tI s46 v47 ((80 + (5 * v3)) + 3) v34 fun s48 =>
    gR s48 1012 (some this) fun v49 =>
    tI s48 v49 ((80 + (5 * v3)) + 4) v38 fun s50 =>
    gR s50 1012 (some this) fun v51 =>
    lI s50 1 v51 5 fun v52 =>
    tI s50 v51 5 (v52 + 1) fun s53 =>
    some s53)
    else
    (some s37))
    else
    (some s0)
def sX2_hireLine (s0 : St) (this : Nat) : Option St :=
    kd s0 this 7 <|
    bd (sX2_personHere s0 this) fun s2 v3 =>
    gI s2 30 (some this) fun v5 =>
    bp (
    if v5 = 0 then
    (gR s2 1012 (some this) fun v20 =>
    lI s2 1 v20 ((26 + (4 * v3)) + 3) fun v21 =>
    if v21 ≤ 0 then
    (some s2)
    else
    (gI s2 22 (some this) fun v22 =>
    kd s2 this 7 <|
    bp (sX2_wrong s2 this 3 v22) fun s24 =>
    some s24))
    else
    (some s2)) fun (s6 : St) =>
    kd s6 this 7 <|
    bp (sX2_pass s6 this) fun s8 =>
    kd s8 this 7 <|
    bd (sX2_after s8 this (s8.ks 7) 0 20) fun s11 v12 =>
    gI s11 30 (some this) fun v14 =>
    if v14 = 0 then
    (gR s11 1012 (some this) fun v15 =>
    tI s11 v15 ((26 + (4 * v3)) + 3) (v12 + 1) fun s16 =>
    gR s16 1012 (some this) fun v17 =>
    lI s16 1 v17 6 fun v18 =>
    tI s16 v17 6 (v18 + 1) fun s19 =>
    some s19)
    else
    (some s11)
def sX2_unsureLine_L28 (this : Nat) (i2 : Int32) : Nat → St → Int32 → Option (St)
  | 0, _, _ => none
  | n + 1, s8, v9 =>
    gR s8 1012 (some this) fun v11 =>
    lI s8 1 v11 7 fun v12 =>
    if v12 ≤ v9 then
    (some s8)
    else
    (gI s8 30 (some this) fun v13 =>
    bp (
    if v13 = 0 then
    (gR s8 1012 (some this) fun v15 =>
    lI s8 1 v15 (95 + (2 * v9)) fun v16 =>
    if v16 = i2 then
    (gI s8 22 (some this) fun v17 =>
    kd s8 this 7 <|
    bp (sX2_wrong s8 this 3 v17) fun s19 =>
    some s19)
    else
    (some s8))
    else
    (some s8)) fun (s14 : St) =>
    sX2_unsureLine_L28 this i2 n s14 (v9 + 1))
def sX2_unsureLine (s0 : St) (this : Nat) : Option St :=
    gI s0 30 (some this) fun v1 =>
    if v1 = 0 then
    (gR s0 1012 (some this) fun v2 =>
    lI s0 1 v2 7 fun v3 =>
    kd s0 this 7 <|
    bd (sX2_personHere s0 this) fun s5 v6 =>
    bp (sX2_unsureLine_L28 this v6 FU s5 0) fun (s23 : St) =>
    kd s23 this 7 <|
    bp (sX2_pass s23 this) fun s25 =>
    kd s25 this 7 <|
    bd (sX2_number s25 this 0 9) fun s28 v29 =>
    gI s28 30 (some this) fun v31 =>
    if v31 = 0 then
    (gR s28 1012 (some this) fun v32 =>
    tI s28 v32 (95 + (2 * v3)) v6 fun s33 =>
    gR s33 1012 (some this) fun v34 =>
    tI s33 v34 ((95 + (2 * v3)) + 1) v29 fun s35 =>
    gR s35 1012 (some this) fun v36 =>
    lI s35 1 v36 7 fun v37 =>
    tI s35 v36 7 (v37 + 1) fun s38 =>
    some s38)
    else
    (some s28))
    else
    (some s0)
def sX2_endedLine (s0 : St) (this : Nat) : Option St :=
    kd s0 this 7 <|
    bd (sX2_named s0 this 12 14) fun s2 v3 =>
    gI s2 30 (some this) fun v5 =>
    bp (
    if v5 = 0 then
    (gR s2 1012 (some this) fun v20 =>
    lI s2 1 v20 (103 + v3) fun v21 =>
    if v21 ≤ 0 then
    (some s2)
    else
    (gI s2 22 (some this) fun v22 =>
    kd s2 this 7 <|
    bp (sX2_wrong s2 this 3 v22) fun s24 =>
    some s24))
    else
    (some s2)) fun (s6 : St) =>
    kd s6 this 7 <|
    bp (sX2_pass s6 this) fun s8 =>
    kd s8 this 7 <|
    bd (sX2_after s8 this (s8.ks 1) 0 59) fun s11 v12 =>
    gI s11 30 (some this) fun v14 =>
    if v14 = 0 then
    (gR s11 1012 (some this) fun v15 =>
    tI s11 v15 (103 + v3) (v12 + 1) fun s16 =>
    gR s16 1012 (some this) fun v17 =>
    lI s16 1 v17 8 fun v18 =>
    tI s16 v17 8 (v18 + 1) fun s19 =>
    some s19)
    else
    (some s11)
def sX2_readLine (s0 : St) (this : Nat) : Option St :=
    kd s0 this 7 <|
    bp (sX2_isWord s0 this (s0.ks 17)) fun v2 =>
    if v2 = 0 then
    (gR s0 1012 (some this) fun v4 =>
    lI s0 1 v4 1 fun v5 =>
    bp (
    if 6 ≤ v5 then
    (some 0)
    else
    (some 1)) fun (v6 : Int32) =>
    kd s0 this 7 <|
    bd (sX2_begins s0 this (s0.ks 13) v6) fun s8 v9 =>
    if v9 = 0 then
    (gR s8 1012 (some this) fun v11 =>
    lI s8 1 v11 2 fun v12 =>
    bp (
    if 8 ≤ v12 then
    (some 0)
    else
    (some 1)) fun (v13 : Int32) =>
    kd s8 this 7 <|
    bd (sX2_begins s8 this (s8.ks 16) v13) fun s15 v16 =>
    if v16 = 0 then
    (gR s15 1012 (some this) fun v18 =>
    lI s15 1 v18 3 fun v19 =>
    bp (
    if 6 ≤ v19 then
    (some 0)
    else
    (some 1)) fun (v20 : Int32) =>
    kd s15 this 7 <|
    bd (sX2_begins s15 this (s15.ks 12) v20) fun s22 v23 =>
    if v23 = 0 then
    (gR s22 1012 (some this) fun v25 =>
    lI s22 1 v25 4 fun v26 =>
    bp (
    if 10 ≤ v26 then
    (some 0)
    else
    (some 1)) fun (v27 : Int32) =>
    kd s22 this 7 <|
    bd (sX2_begins s22 this (s22.ks 9) v27) fun s29 v30 =>
    if v30 = 0 then
    (gR s29 1012 (some this) fun v32 =>
    lI s29 1 v32 5 fun v33 =>
    bp (
    if 3 ≤ v33 then
    (some 0)
    else
    (some 1)) fun (v34 : Int32) =>
    kd s29 this 7 <|
    bd (sX2_begins s29 this (s29.ks 15) v34) fun s36 v37 =>
    if v37 = 0 then
    (kd s36 this 7 <|
    bd (sX2_begins s36 this (s36.ks 10) 1) fun s40 v41 =>
    if v41 = 0 then
    (gR s40 1012 (some this) fun v43 =>
    lI s40 1 v43 7 fun v44 =>
    bp (
    if 4 ≤ v44 then
    (some 0)
    else
    (some 1)) fun (v45 : Int32) =>
    kd s40 this 7 <|
    bd (sX2_begins s40 this (s40.ks 18) v45) fun s47 v48 =>
    if v48 = 0 then
    (kd s47 this 7 <|
    bd (sX2_begins s47 this (s47.ks 6) 1) fun s51 v52 =>
    if v52 = 0 then
    (gI s51 22 (some this) fun v54 =>
    kd s51 this 7 <|
    bp (sX2_wrong s51 this 1 v54) fun s56 =>
    some s56)
    else
    (kd s51 this 7 <|
    bp (sX2_endedLine s51 this) fun s59 =>
    some s59))
    else
    (kd s47 this 7 <|
    bp (sX2_unsureLine s47 this) fun s62 =>
    some s62))
    else
    (kd s40 this 7 <|
    bp (sX2_hireLine s40 this) fun s67 =>
    some s67))
    else
    (kd s36 this 7 <|
    bp (sX2_quarrelLine s36 this) fun s70 =>
    some s70))
    else
    (kd s29 this 7 <|
    bp (sX2_goesLine s29 this) fun s75 =>
    some s75))
    else
    (kd s22 this 7 <|
    bp (sX2_personLine s22 this) fun s80 =>
    some s80))
    else
    (kd s15 this 7 <|
    bp (sX2_seesLine s15 this) fun s85 =>
    some s85))
    else
    (kd s8 this 7 <|
    bp (sX2_placeLine s8 this) fun s90 =>
    some s90))
    else
    (kd s0 this 7 <|
    bp (sX2_townLine s0 this) fun s95 =>
    some s95)
def sX2_copy_L3 (i0 : Option Nat) (i1 : Int32) (i2 : Option Nat) (i3 : Int32) (i4 : Int32) : Nat → St → Int32 → Option (St)
  | 0, _, _ => none
  | n + 1, s1, v2 =>
    if i4 ≤ v2 then
    (some s1)
    else
    (lI s1 1 i0 (i1 + v2) fun v4 =>
    tI s1 i2 (i3 + v2) v4 fun s5 =>
    sX2_copy_L3 i0 i1 i2 i3 i4 n s5 (v2 + 1))
def sX2_copy (s0 : St) (p0 : Option Nat) (p1 : Int32) (p2 : Option Nat) (p3 : Int32) (p4 : Int32) : Option St :=
    bp (sX2_copy_L3 p0 p1 p2 p3 p4 FU s0 0) fun (s6 : St) =>
    some s6
def sX2_town_L39 (this : Nat) : Nat → St → Int32 → Option (St)
  | 0, _, _ => none
  | n + 1, s14, v15 =>
    if 241 ≤ v15 then
    (some s14)
    else
    (gR s14 1012 (some this) fun v17 =>
    tI s14 v17 v15 0 fun s18 =>
    sX2_town_L39 this n s18 (v15 + 1))
def sX2_town_L77 (this : Nat) : Nat → St → Option (St)
  | 0, _ => none
  | n + 1, s28 =>
    gI s28 30 (some this) fun v30 =>
    if v30 = 0 then
    (gI s28 24 (some this) fun v31 =>
    if v31 = 59 then
    (kd s28 this 7 <|
    bp (sX2_next s28 this) fun s33 =>
    kd s33 this 7 <|
    bp (sX2_readLine s33 this) fun s36 =>
    sX2_town_L77 this n s36)
    else
    (some s28))
    else
    (some s28)
def sX2_town_L194 (this : Nat) : Nat → St → Int32 → Option (St)
  | 0, _, _ => none
  | n + 1, s48, v49 =>
    if 8 ≤ v49 then
    (some s48)
    else
    (gR s48 1013 (some this) fun v51 =>
    tI s48 v51 v49 0 fun s52 =>
    sX2_town_L194 this n s52 (v49 + 1))
def sX2_town (s0 : St) (this : Nat) (p0 : Int32) : Option (St × Int32) :=
    kd s0 this 7 <|
    bp (sX2_good s0 this) fun s2 =>
    gI s2 20 (some this) fun v4 =>
    bp (sX2_in s2 p0 0 v4) fun v5 =>
    if v5 = 0 then
    (kd s2 this 7 <|
    bd (sX2_no s2 this 2) fun s8 v9 =>
    some (s8, v9))
    else
    (pI s2 20 (some this) 0 fun s11 =>
    pI s11 27 (some this) 0 fun s12 =>
    pI s12 30 (some this) 0 fun s13 =>
    bp (sX2_town_L39 this FU s13 0) fun (s19 : St) =>
    pI s19 21 (some this) p0 fun s20 =>
    pI s20 23 (some this) 0 fun s21 =>
    kd s21 this 7 <|
    bp (sX2_next s21 this) fun s23 =>
    kd s23 this 7 <|
    bp (sX2_readLine s23 this) fun s26 =>
    bp (sX2_town_L77 this FU s26) fun (s38 : St) =>
    gI s38 30 (some this) fun v39 =>
    bp (
    if v39 = 0 then
    (gI s38 24 (some this) fun v79 =>
    if v79 = 0 then
    (some s38)
    else
    (gI s38 22 (some this) fun v80 =>
    kd s38 this 7 <|
    bp (sX2_wrong s38 this 1 v80) fun s82 =>
    some s82))
    else
    (some s38)) fun (s40 : St) =>
    gI s40 30 (some this) fun v41 =>
    bp (
    if v41 = 0 then
    (gR s40 1012 (some this) fun v65 =>
    lI s40 1 v65 9 fun v66 =>
    if v66 = 0 then
    (gI s40 22 (some this) fun v67 =>
    kd s40 this 7 <|
    bp (sX2_wrong s40 this 6 v67) fun s69 =>
    some s69)
    else
    (gR s40 1012 (some this) fun v71 =>
    lI s40 1 v71 1 fun v72 =>
    if v72 = 0 then
    (gI s40 22 (some this) fun v73 =>
    kd s40 this 7 <|
    bp (sX2_wrong s40 this 6 v73) fun s75 =>
    some s75)
    else
    (some s40)))
    else
    (some s40)) fun (s42 : St) =>
    gI s42 30 (some this) fun v43 =>
    if v43 = 0 then
    (gR s42 1012 (some this) fun v44 =>
    gR s42 1011 (some this) fun v45 =>
    bp (sX2_copy s42 v44 0 v45 0 241) fun s46 =>
    bp (sX2_town_L194 this FU s46 0) fun (s53 : St) =>
    pI s53 31 (some this) 1 fun s54 =>
    pI s54 32 (some this) 0 fun s55 =>
    pI s55 33 (some this) 0 fun s56 =>
    gR s56 1011 (some this) fun v57 =>
    lI s56 1 v57 1 fun v58 =>
    some (s56, v58))
    else
    (kd s42 this 7 <|
    bd (sX2_no s42 this 4) fun s62 v63 =>
    some (s62, v63)))
def sX1_fault (s0 : St) (this : Nat) : Option Int32 :=
    gI s0 1 (some this) fun v1 =>
    some v1
def sX2_fault (s0 : St) (this : Nat) : Option (St × Int32) :=
    pI s0 19 (some this) 0 fun s1 =>
    gI s1 27 (some this) fun v2 =>
    some (s1, v2)
def sX1_where (s0 : St) (this : Nat) : Option Int32 :=
    gI s0 2 (some this) fun v1 =>
    some v1
def sX2_where (s0 : St) (this : Nat) : Option (St × Int32) :=
    pI s0 19 (some this) 0 fun s1 =>
    gI s1 29 (some this) fun v2 =>
    if v2 = 4 then
    (gI s1 28 (some this) fun v3 =>
    some (s1, v3))
    else
    (some (s1, (-1)))
def sX1_people (s0 : St) (this : Nat) : Option Int32 :=
    gR s0 1001 (some this) fun v1 =>
    gR s0 1025 v1 fun v2 =>
    iv s0 6 v2 fun w3 =>
    bp (sJ2_size s0 w3) fun v6 =>
    some v6
def sX1_isPerson (s0 : St) (this : Nat) (p0 : Int32) : Option Int32 :=
    gR s0 1001 (some this) fun v1 =>
    if v1 = none then
    (some 0)
    else
    (kd s0 this 5 <|
    bp (sX1_people s0 this) fun v3 =>
    bp (sX1_in s0 p0 0 (v3 - 1)) fun v5 =>
    if v5 = 0 then
    (some 0)
    else
    (some 1))
def sX9_kind (s0 : St) (this : Nat) : Option Int32 :=
    some 0
def sX10_kind (s0 : St) (this : Nat) : Option Int32 :=
    some 1
def sX11_kind (s0 : St) (this : Nat) : Option Int32 :=
    some 2
def sX12_kind (s0 : St) (this : Nat) : Option Int32 :=
    some 3
def sX9_eyes (s0 : St) (this : Nat) : Option Int32 :=
    some 2
def sX11_eyes (s0 : St) (this : Nat) : Option Int32 :=
    some 0
def sX12_eyes (s0 : St) (this : Nat) : Option Int32 :=
    kd s0 this 19 <|
    bp (sX9_eyes s0 this) fun v1 =>
    dzI (2 : Int32) <|
    some (v1 / 2)
def sX1_quarrels (s0 : St) (this : Nat) : Option Int32 :=
    gR s0 1001 (some this) fun v1 =>
    gR s0 1026 v1 fun v2 =>
    iv s0 6 v2 fun w3 =>
    bp (sJ2_size s0 w3) fun v6 =>
    some v6
def sX1_quarrelsOf_L4 (s1 : St) (this : Nat) (i1 : Int32) : Nat → Int32 → Int32 → Option (Int32)
  | 0, _, _ => none
  | n + 1, v2, v3 =>
    kd s1 this 5 <|
    bp (sX1_quarrels s1 this) fun v6 =>
    if v6 ≤ v3 then
    (some v2)
    else
    (gR s1 1001 (some this) fun v8 =>
    iv s1 10 v8 fun w9 =>
    bp (sX5_quarrel s1 w9 v3) fun v12 =>
    gI s1 71 v12 fun v14 =>
    bp (
    if v14 = i1 then
    (some ((1 : Int32) <<< (v3 &&& 31)))
    else
    (gR s1 1001 (some this) fun v16 =>
    iv s1 10 v16 fun w17 =>
    bp (sX5_quarrel s1 w17 v3) fun v20 =>
    gI s1 72 v20 fun v22 =>
    if v22 = i1 then
    (some ((1 : Int32) <<< (v3 &&& 31)))
    else
    (some 0))) fun (v15 : Int32) =>
    sX1_quarrelsOf_L4 s1 this i1 n (v2 ||| v15) (v3 + 1))
def sX1_quarrelsOf (s0 : St) (this : Nat) (p0 : Int32) : Option Int32 :=
    bp (sX1_quarrelsOf_L4 s0 this p0 FU 0 0) fun (v25 : Int32) =>
    some v25
def dv_kind (s0 : St) (b : Nat) : Option Int32 :=
if s0.ob b = 16 then sX9_kind s0 b else
if s0.ob b = 17 then sX10_kind s0 b else
if s0.ob b = 18 then sX11_kind s0 b else
if s0.ob b = 19 then sX12_kind s0 b else
none
def dv_eyes (s0 : St) (b : Nat) : Option Int32 :=
if s0.ob b = 16 then sX9_eyes s0 b else
if s0.ob b = 17 then sX9_eyes s0 b else
if s0.ob b = 18 then sX11_eyes s0 b else
if s0.ob b = 19 then sX12_eyes s0 b else
none
def sX1_person (s0 : St) (this : Nat) (p0 : Int32) (p1 : Int32) : Option (St × Int32) :=
    kd s0 this 5 <|
    bp (sX1_isPerson s0 this p0) fun v2 =>
    if v2 = 0 then
    (kd s0 this 5 <|
    bd (sX1_refused s0 this 1) fun s5 v6 =>
    some (s5, v6))
    else
    (bp (sX1_in s0 p1 0 5) fun v8 =>
    if v8 = 0 then
    (kd s0 this 5 <|
    bd (sX1_refused s0 this 1) fun s11 v12 =>
    some (s11, v12))
    else
    (gR s0 1001 (some this) fun v14 =>
    iv s0 10 v14 fun w15 =>
    bp (sX5_person s0 w15 p0) fun v18 =>
    if p1 = 0 then
    (xN v18 fun w22 =>
    bp (dv_kind s0 w22) fun v20 =>
    kd s0 this 5 <|
    bd (sX1_well s0 this v20) fun s25 v26 =>
    some (s25, v26))
    else
    (if p1 = 1 then
    (gI s0 66 v18 fun v30 =>
    kd s0 this 5 <|
    bd (sX1_well s0 this v30) fun s32 v33 =>
    some (s32, v33))
    else
    (if p1 = 2 then
    (xN v18 fun w39 =>
    bp (dv_eyes s0 w39) fun v37 =>
    kd s0 this 5 <|
    bd (sX1_well s0 this v37) fun s42 v43 =>
    some (s42, v43))
    else
    (if p1 = 3 then
    (gI s0 69 v18 fun v47 =>
    kd s0 this 5 <|
    bd (sX1_well s0 this v47) fun s49 v50 =>
    some (s49, v50))
    else
    (if p1 = 4 then
    (gR s0 1002 (some this) fun v54 =>
    gR s0 1036 v54 fun v55 =>
    lI s0 2 v55 p0 fun v56 =>
    kd s0 this 5 <|
    bd (sX1_well s0 this v56) fun s58 v59 =>
    some (s58, v59))
    else
    (kd s0 this 5 <|
    bp (sX1_quarrelsOf s0 this p0) fun v64 =>
    kd s0 this 5 <|
    bd (sX1_well s0 this v64) fun s67 v68 =>
    some (s67, v68))))))))
def sX2_isPerson (s0 : St) (this : Nat) (p0 : Int32) : Option Int32 :=
    gI s0 31 (some this) fun v1 =>
    if v1 = 0 then
    (some 0)
    else
    (gR s0 1011 (some this) fun v2 =>
    lI s0 1 v2 3 fun v3 =>
    bp (sX2_in s0 p0 0 (v3 - 1)) fun v4 =>
    if v4 = 0 then
    (some 0)
    else
    (some 1))
def sX2_eyesOfKind (s0 : St) (p0 : Int32) : Option Int32 :=
    if p0 = 2 then
    (some 0)
    else
    (if p0 = 3 then
    (some 1)
    else
    (some 2))
def sX2_quarrelsOf_L4 (s1 : St) (this : Nat) (i1 : Int32) : Nat → Int32 → Int32 → Option (Int32)
  | 0, _, _ => none
  | n + 1, v2, v3 =>
    gR s1 1011 (some this) fun v5 =>
    lI s1 1 v5 5 fun v6 =>
    if v6 ≤ v3 then
    (some v2)
    else
    (gR s1 1011 (some this) fun v7 =>
    lI s1 1 v7 (80 + (5 * v3)) fun v8 =>
    bp (
    if v8 = i1 then
    (some ((1 : Int32) <<< (v3 &&& 31)))
    else
    (gR s1 1011 (some this) fun v10 =>
    lI s1 1 v10 ((80 + (5 * v3)) + 1) fun v11 =>
    if v11 = i1 then
    (some ((1 : Int32) <<< (v3 &&& 31)))
    else
    (some 0))) fun (v9 : Int32) =>
    sX2_quarrelsOf_L4 s1 this i1 n (v2 ||| v9) (v3 + 1))
def sX2_quarrelsOf (s0 : St) (this : Nat) (p0 : Int32) : Option Int32 :=
    bp (sX2_quarrelsOf_L4 s0 this p0 FU 0 0) fun (v14 : Int32) =>
    some v14
def sX2_person (s0 : St) (this : Nat) (p0 : Int32) (p1 : Int32) : Option (St × Int32) :=
    kd s0 this 7 <|
    bp (sX2_good s0 this) fun s2 =>
    kd s2 this 7 <|
    bp (sX2_isPerson s2 this p0) fun v5 =>
    if v5 = 0 then
    (kd s2 this 7 <|
    bd (sX2_no s2 this 1) fun s8 v9 =>
    some (s8, v9))
    else
    (bp (sX2_in s2 p1 0 5) fun v11 =>
    if v11 = 0 then
    (kd s2 this 7 <|
    bd (sX2_no s2 this 1) fun s14 v15 =>
    some (s14, v15))
    else
    (if p1 = 0 then
    (gR s2 1011 (some this) fun v17 =>
    lI s2 1 v17 (26 + (4 * p0)) fun v18 =>
    some (s2, v18))
    else
    (if p1 = 1 then
    (gR s2 1011 (some this) fun v21 =>
    lI s2 1 v21 ((26 + (4 * p0)) + 2) fun v22 =>
    some (s2, v22))
    else
    (if p1 = 2 then
    (gR s2 1011 (some this) fun v25 =>
    lI s2 1 v25 (26 + (4 * p0)) fun v26 =>
    bp (sX2_eyesOfKind s2 v26) fun v27 =>
    some (s2, v27))
    else
    (if p1 = 3 then
    (gR s2 1011 (some this) fun v31 =>
    lI s2 1 v31 ((26 + (4 * p0)) + 3) fun v32 =>
    if v32 = 0 then
    (some (s2, (-2)))
    else
    (gR s2 1011 (some this) fun v33 =>
    lI s2 1 v33 ((26 + (4 * p0)) + 3) fun v34 =>
    some (s2, (v34 - 1))))
    else
    (if p1 = 4 then
    (gR s2 1013 (some this) fun v37 =>
    lI s2 1 v37 p0 fun v38 =>
    if v38 = 0 then
    (some (s2, (-2)))
    else
    (gR s2 1013 (some this) fun v39 =>
    lI s2 1 v39 p0 fun v40 =>
    some (s2, (v40 - 1))))
    else
    (kd s2 this 7 <|
    bp (sX2_quarrelsOf s2 this p0) fun v44 =>
    some (s2, v44))))))))
def sX1_sights (s0 : St) (this : Nat) : Option Int32 :=
    gR s0 1001 (some this) fun v1 =>
    gR s0 1027 v1 fun v2 =>
    iv s0 6 v2 fun w3 =>
    bp (sJ2_size s0 w3) fun v6 =>
    some v6
def sX1_isSight (s0 : St) (this : Nat) (p0 : Int32) : Option Int32 :=
    gR s0 1001 (some this) fun v1 =>
    if v1 = none then
    (some 0)
    else
    (kd s0 this 5 <|
    bp (sX1_sights s0 this) fun v3 =>
    bp (sX1_in s0 p0 0 (v3 - 1)) fun v5 =>
    if v5 = 0 then
    (some 0)
    else
    (some 1))
def sX1_has (s0 : St) (p0 : Int32) (p1 : Int32) : Option Int32 :=
    if ((p0 >>> (p1 &&& 31)) &&& 1) = 1 then
    (some 1)
    else
    (some 0)
def sX1_sight (s0 : St) (this : Nat) (p0 : Int32) (p1 : Int32) : Option (St × Int32) :=
    kd s0 this 5 <|
    bp (sX1_isSight s0 this p0) fun v2 =>
    if v2 = 0 then
    (kd s0 this 5 <|
    bd (sX1_refused s0 this 1) fun s5 v6 =>
    some (s5, v6))
    else
    (bp (sX1_in s0 p1 0 2) fun v8 =>
    if v8 = 0 then
    (kd s0 this 5 <|
    bd (sX1_refused s0 this 1) fun s11 v12 =>
    some (s11, v12))
    else
    (gR s0 1001 (some this) fun v14 =>
    gR s0 1027 v14 fun v15 =>
    iv s0 6 v15 fun w16 =>
    bp (sJ2_get s0 w16 p0) fun v19 =>
    ck s0 [15] v19 <|
    if p1 = 0 then
    (gI s0 63 v19 fun v22 =>
    kd s0 this 5 <|
    bd (sX1_well s0 this v22) fun s24 v25 =>
    some (s24, v25))
    else
    (if p1 = 1 then
    (gI s0 64 v19 fun v27 =>
    kd s0 this 5 <|
    bd (sX1_well s0 this v27) fun s29 v30 =>
    some (s29, v30))
    else
    (gR s0 1002 (some this) fun v32 =>
    gI s0 77 v32 fun v33 =>
    bp (sX1_has s0 v33 p0) fun v34 =>
    if v34 = 0 then
    (kd s0 this 5 <|
    bd (sX1_well s0 this 0) fun s37 v38 =>
    some (s37, v38))
    else
    (kd s0 this 5 <|
    bd (sX1_well s0 this 1) fun s41 v42 =>
    some (s41, v42))))))
def sX2_isSight (s0 : St) (this : Nat) (p0 : Int32) : Option Int32 :=
    gI s0 31 (some this) fun v1 =>
    if v1 = 0 then
    (some 0)
    else
    (gR s0 1011 (some this) fun v2 =>
    lI s0 1 v2 2 fun v3 =>
    bp (sX2_in s0 p0 0 (v3 - 1)) fun v4 =>
    if v4 = 0 then
    (some 0)
    else
    (some 1))
def sX2_sight (s0 : St) (this : Nat) (p0 : Int32) (p1 : Int32) : Option (St × Int32) :=
    kd s0 this 7 <|
    bp (sX2_good s0 this) fun s2 =>
    kd s2 this 7 <|
    bp (sX2_isSight s2 this p0) fun v5 =>
    if v5 = 0 then
    (kd s2 this 7 <|
    bd (sX2_no s2 this 1) fun s8 v9 =>
    some (s8, v9))
    else
    (bp (sX2_in s2 p1 0 2) fun v11 =>
    if v11 = 0 then
    (kd s2 this 7 <|
    bd (sX2_no s2 this 1) fun s14 v15 =>
    some (s14, v15))
    else
    (if 2 ≤ p1 then
    (gR s2 1013 (some this) fun v17 =>
    lI s2 1 v17 6 fun v18 =>
    some (s2, ((v18 >>> (p0 &&& 31)) &&& 1)))
    else
    (gR s2 1011 (some this) fun v19 =>
    lI s2 1 v19 ((10 + (2 * p0)) + p1) fun v20 =>
    some (s2, v20))))
def sX1_isQuarrel (s0 : St) (this : Nat) (p0 : Int32) : Option Int32 :=
    gR s0 1001 (some this) fun v1 =>
    if v1 = none then
    (some 0)
    else
    (kd s0 this 5 <|
    bp (sX1_quarrels s0 this) fun v3 =>
    bp (sX1_in s0 p0 0 (v3 - 1)) fun v5 =>
    if v5 = 0 then
    (some 0)
    else
    (some 1))
def sX1_quarrel (s0 : St) (this : Nat) (p0 : Int32) (p1 : Int32) : Option (St × Int32) :=
    kd s0 this 5 <|
    bp (sX1_isQuarrel s0 this p0) fun v2 =>
    if v2 = 0 then
    (kd s0 this 5 <|
    bd (sX1_refused s0 this 1) fun s5 v6 =>
    some (s5, v6))
    else
    (bp (sX1_in s0 p1 0 4) fun v8 =>
    if v8 = 0 then
    (kd s0 this 5 <|
    bd (sX1_refused s0 this 1) fun s11 v12 =>
    some (s11, v12))
    else
    (gR s0 1001 (some this) fun v14 =>
    iv s0 10 v14 fun w15 =>
    bp (sX5_quarrel s0 w15 p0) fun v18 =>
    if p1 = 0 then
    (gI s0 71 v18 fun v20 =>
    kd s0 this 5 <|
    bd (sX1_well s0 this v20) fun s22 v23 =>
    some (s22, v23))
    else
    (if p1 = 1 then
    (gI s0 72 v18 fun v25 =>
    kd s0 this 5 <|
    bd (sX1_well s0 this v25) fun s27 v28 =>
    some (s27, v28))
    else
    (if p1 = 2 then
    (gI s0 73 v18 fun v30 =>
    kd s0 this 5 <|
    bd (sX1_well s0 this v30) fun s32 v33 =>
    some (s32, v33))
    else
    (if p1 = 3 then
    (gI s0 74 v18 fun v35 =>
    kd s0 this 5 <|
    bd (sX1_well s0 this v35) fun s37 v38 =>
    some (s37, v38))
    else
    (gI s0 75 v18 fun v40 =>
    kd s0 this 5 <|
    bd (sX1_well s0 this v40) fun s42 v43 =>
    some (s42, v43)))))))
def sX2_isQuarrel (s0 : St) (this : Nat) (p0 : Int32) : Option Int32 :=
    gI s0 31 (some this) fun v1 =>
    if v1 = 0 then
    (some 0)
    else
    (gR s0 1011 (some this) fun v2 =>
    lI s0 1 v2 5 fun v3 =>
    bp (sX2_in s0 p0 0 (v3 - 1)) fun v4 =>
    if v4 = 0 then
    (some 0)
    else
    (some 1))
def sX2_quarrel (s0 : St) (this : Nat) (p0 : Int32) (p1 : Int32) : Option (St × Int32) :=
    kd s0 this 7 <|
    bp (sX2_good s0 this) fun s2 =>
    kd s2 this 7 <|
    bp (sX2_isQuarrel s2 this p0) fun v5 =>
    if v5 = 0 then
    (kd s2 this 7 <|
    bd (sX2_no s2 this 1) fun s8 v9 =>
    some (s8, v9))
    else
    (bp (sX2_in s2 p1 0 4) fun v11 =>
    if v11 = 0 then
    (kd s2 this 7 <|
    bd (sX2_no s2 this 1) fun s14 v15 =>
    some (s14, v15))
    else
    (gR s2 1011 (some this) fun v17 =>
    lI s2 1 v17 ((80 + (5 * p0)) + p1) fun v18 =>
    some (s2, v18)))
def sX1_why (s0 : St) (this : Nat) (p0 : Int32) (p1 : Int32) (p2 : Int32) (p3 : Int32) : Option Int32 :=
    if p0 = 0 then
    (some 1)
    else
    (bp (sX1_in s0 p1 p2 p3) fun v1 =>
    if v1 = 0 then
    (some 2)
    else
    (some 0))
def sX9_at_L7 (s2 : St) (this : Nat) (i1 : Int32) : Nat → Int32 → Int32 → Option (Int32)
  | 0, _, _ => none
  | n + 1, v3, v4 =>
    gI s2 68 (some this) fun v6 =>
    if v6 ≤ v4 then
    (some v3)
    else
    (gR s2 1033 (some this) fun v7 =>
    lI s2 1 v7 v4 fun v8 =>
    bp (
    if i1 < v8 then
    (some v3)
    else
    (gR s2 1034 (some this) fun v10 =>
    lI s2 1 v10 v4 fun v11 =>
    some v11)) fun (v9 : Int32) =>
    sX9_at_L7 s2 this i1 n v9 (v4 + 1))
def sX9_at (s0 : St) (this : Nat) (p0 : Int32) : Option Int32 :=
    gI s0 65 (some this) fun v1 =>
    bp (sX9_at_L7 s0 this p0 FU v1 0) fun (v14 : Int32) =>
    some v14
def dv_at (s0 : St) (b : Nat) (p0 : Int32) : Option Int32 :=
if s0.ob b = 16 then sX9_at s0 b p0 else
if s0.ob b = 17 then sX9_at s0 b p0 else
if s0.ob b = 18 then sX9_at s0 b p0 else
if s0.ob b = 19 then sX9_at s0 b p0 else
none
def sX14_at (s0 : St) (this : Nat) (p0 : Int32) (p1 : Int32) : Option Int32 :=
    gR s0 1036 (some this) fun v1 =>
    lI s0 2 v1 p0 fun v2 =>
    if v2 = (-2) then
    (gR s0 1035 (some this) fun v3 =>
    iv s0 10 v3 fun w4 =>
    bp (sX5_person s0 w4 p0) fun v7 =>
    xN v7 fun w11 =>
    bp (dv_at s0 w11 p1) fun v9 =>
    some v9)
    else
    (gR s0 1036 (some this) fun v13 =>
    lI s0 2 v13 p0 fun v14 =>
    some v14)
def sX1_at (s0 : St) (this : Nat) (p0 : Int32) (p1 : Int32) : Option (St × Int32) :=
    kd s0 this 5 <|
    bp (sX1_isPerson s0 this p0) fun v2 =>
    kd s0 this 5 <|
    bp (sX1_why s0 this v2 p1 0 59) fun v5 =>
    if v5 ≤ 0 then
    (gR s0 1002 (some this) fun v7 =>
    iv s0 21 v7 fun w8 =>
    bp (sX14_at s0 w8 p0 p1) fun v11 =>
    kd s0 this 5 <|
    bd (sX1_well s0 this v11) fun s14 v15 =>
    some (s14, v15))
    else
    (kd s0 this 5 <|
    bd (sX1_refused s0 this v5) fun s18 v19 =>
    some (s18, v19))
def sX2_isMinute (s0 : St) (this : Nat) (p0 : Int32) : Option Int32 :=
    bp (sX2_in s0 p0 0 59) fun v1 =>
    ok (okZ v1) <|
    some v1
def sX2_why (s0 : St) (this : Nat) (p0 : Int32) (p1 : Int32) : Option Int32 :=
    if p0 = 0 then
    (some 1)
    else
    (if p1 = 0 then
    (some 2)
    else
    (some 0))
def sX2_asNow_L17 (this : Nat) : Nat → St → Int32 → Option (St)
  | 0, _, _ => none
  | n + 1, s5, v6 =>
    gR s5 1011 (some this) fun v8 =>
    lI s5 1 v8 3 fun v9 =>
    if v9 ≤ v6 then
    (some s5)
    else
    (gR s5 1017 (some this) fun v10 =>
    gR s5 1011 (some this) fun v11 =>
    lI s5 1 v11 ((26 + (4 * v6)) + 2) fun v12 =>
    tI s5 v10 v6 v12 fun s13 =>
    gR s13 1018 (some this) fun v14 =>
    gR s13 1011 (some this) fun v15 =>
    lI s13 1 v15 (26 + (4 * v6)) fun v16 =>
    bp (sX2_eyesOfKind s13 v16) fun v17 =>
    tI s13 v14 v6 v17 fun s19 =>
    sX2_asNow_L17 this n s19 (v6 + 1))
def sX2_asNow (s0 : St) (this : Nat) : Option St :=
    gR s0 1013 (some this) fun v1 =>
    gR s0 1016 (some this) fun v2 =>
    bp (sX2_copy s0 v1 0 v2 0 8) fun s3 =>
    bp (sX2_asNow_L17 this FU s3 0) fun (s20 : St) =>
    some s20
def sX2_placeOf_L35 (s5 : St) (this : Nat) (i1 : Int32) (i2 : Int32) : Nat → Int32 → Int32 → Option (Int32)
  | 0, _, _ => none
  | n + 1, v6, v7 =>
    gR s5 1011 (some this) fun v9 =>
    lI s5 1 v9 4 fun v10 =>
    if v10 ≤ v7 then
    (some v6)
    else
    (gR s5 1011 (some this) fun v11 =>
    lI s5 1 v11 (50 + (3 * v7)) fun v12 =>
    bp (
    if v12 = i1 then
    (gR s5 1011 (some this) fun v14 =>
    lI s5 1 v14 ((50 + (3 * v7)) + 2) fun v15 =>
    if i2 < v15 then
    (some v6)
    else
    (gR s5 1011 (some this) fun v16 =>
    lI s5 1 v16 ((50 + (3 * v7)) + 1) fun v17 =>
    some v17))
    else
    (some v6)) fun (v13 : Int32) =>
    sX2_placeOf_L35 s5 this i1 i2 n v13 (v7 + 1))
def sX2_placeOf (s0 : St) (this : Nat) (p0 : Int32) (p1 : Int32) : Option Int32 :=
    gR s0 1016 (some this) fun v1 =>
    lI s0 1 v1 p0 fun v2 =>
    if v2 ≤ 0 then
    (gR s0 1011 (some this) fun v3 =>
    lI s0 1 v3 ((26 + (4 * p0)) + 1) fun v4 =>
    bp (sX2_placeOf_L35 s0 this p0 p1 FU v4 0) fun (v20 : Int32) =>
    some v20)
    else
    (gR s0 1016 (some this) fun v23 =>
    lI s0 1 v23 p0 fun v24 =>
    some (v24 - 1))
def sX2_at (s0 : St) (this : Nat) (p0 : Int32) (p1 : Int32) : Option (St × Int32) :=
    kd s0 this 7 <|
    bp (sX2_good s0 this) fun s2 =>
    kd s2 this 7 <|
    bp (sX2_isPerson s2 this p0) fun v5 =>
    kd s2 this 7 <|
    bp (sX2_isMinute s2 this p1) fun v8 =>
    kd s2 this 7 <|
    bp (sX2_why s2 this v5 v8) fun v11 =>
    if v11 = 0 then
    (kd s2 this 7 <|
    bp (sX2_asNow s2 this) fun s14 =>
    kd s14 this 7 <|
    bp (sX2_placeOf s14 this p0 p1) fun v17 =>
    some (s14, v17))
    else
    (kd s2 this 7 <|
    bd (sX2_no s2 this v11) fun s20 v21 =>
    some (s20, v21))
def sX1_isPlace (s0 : St) (this : Nat) (p0 : Int32) : Option Int32 :=
    gR s0 1001 (some this) fun v1 =>
    if v1 = none then
    (some 0)
    else
    (kd s0 this 5 <|
    bp (sX1_places s0 this) fun v3 =>
    bp (sX1_in s0 p0 0 (v3 - 1)) fun v5 =>
    if v5 = 0 then
    (some 0)
    else
    (some 1))
def sX14_into_L6 (s1 : St) (this : Nat) (i1 : Int32) : Nat → Int32 → Int32 → Option (Int32)
  | 0, _, _ => none
  | n + 1, v2, v3 =>
    gR s1 1035 (some this) fun v5 =>
    gR s1 1027 v5 fun v6 =>
    iv s1 6 v6 fun w7 =>
    bp (sJ2_size s1 w7) fun v10 =>
    if v10 ≤ v3 then
    (some v2)
    else
    (gI s1 77 (some this) fun v12 =>
    bp (sX1_has s1 v12 v3) fun v13 =>
    bp (
    if v13 = 0 then
    (gR s1 1035 (some this) fun v16 =>
    gR s1 1027 v16 fun v17 =>
    iv s1 6 v17 fun w18 =>
    bp (sJ2_get s1 w18 v3) fun v21 =>
    ck s1 [15] v21 <|
    gI s1 63 v21 fun v24 =>
    if v24 = i1 then
    (gR s1 1035 (some this) fun v25 =>
    gR s1 1027 v25 fun v26 =>
    iv s1 6 v26 fun w27 =>
    bp (sJ2_get s1 w27 v3) fun v30 =>
    ck s1 [15] v30 <|
    gI s1 64 v30 fun v33 =>
    some (v2 ||| ((1 : Int32) <<< (v33 &&& 31))))
    else
    (some v2))
    else
    (some v2)) fun (v15 : Int32) =>
    sX14_into_L6 s1 this i1 n v15 (v3 + 1))
def sX14_into (s0 : St) (this : Nat) (p0 : Int32) : Option Int32 :=
    bp (sX14_into_L6 s0 this p0 FU ((1 : Int32) <<< (p0 &&& 31)) 0) fun (v36 : Int32) =>
    some v36
def sX1_into (s0 : St) (this : Nat) (p0 : Int32) : Option (St × Int32) :=
    kd s0 this 5 <|
    bp (sX1_isPlace s0 this p0) fun v2 =>
    if v2 = 0 then
    (kd s0 this 5 <|
    bd (sX1_refused s0 this 1) fun s5 v6 =>
    some (s5, v6))
    else
    (gR s0 1002 (some this) fun v8 =>
    iv s0 21 v8 fun w9 =>
    bp (sX14_into s0 w9 p0) fun v12 =>
    kd s0 this 5 <|
    bd (sX1_well s0 this v12) fun s15 v16 =>
    some (s15, v16))
def sX2_isPlace (s0 : St) (this : Nat) (p0 : Int32) : Option Int32 :=
    gI s0 31 (some this) fun v1 =>
    if v1 = 0 then
    (some 0)
    else
    (gR s0 1011 (some this) fun v2 =>
    lI s0 1 v2 1 fun v3 =>
    bp (sX2_in s0 p0 0 (v3 - 1)) fun v4 =>
    if v4 = 0 then
    (some 0)
    else
    (some 1))
def sX2_hasBit (s0 : St) (p0 : Int32) (p1 : Int32) : Option Int32 :=
    if ((p0 >>> (p1 &&& 31)) &&& 1) = 1 then
    (some 1)
    else
    (some 0)
def sX2_intoOf_L6 (s1 : St) (this : Nat) (i1 : Int32) : Nat → Int32 → Int32 → Option (Int32)
  | 0, _, _ => none
  | n + 1, v2, v3 =>
    gR s1 1011 (some this) fun v5 =>
    lI s1 1 v5 2 fun v6 =>
    if v6 ≤ v3 then
    (some v2)
    else
    (gR s1 1011 (some this) fun v7 =>
    lI s1 1 v7 (10 + (2 * v3)) fun v8 =>
    bp (
    if v8 = i1 then
    (gR s1 1016 (some this) fun v10 =>
    lI s1 1 v10 6 fun v11 =>
    bp (sX2_hasBit s1 v11 v3) fun v12 =>
    if v12 = 0 then
    (gR s1 1011 (some this) fun v14 =>
    lI s1 1 v14 ((10 + (2 * v3)) + 1) fun v15 =>
    some ((1 : Int32) <<< (v15 &&& 31)))
    else
    (some 0))
    else
    (some 0)) fun (v9 : Int32) =>
    sX2_intoOf_L6 s1 this i1 n (v2 ||| v9) (v3 + 1))
def sX2_intoOf (s0 : St) (this : Nat) (p0 : Int32) : Option Int32 :=
    bp (sX2_intoOf_L6 s0 this p0 FU ((1 : Int32) <<< (p0 &&& 31)) 0) fun (v18 : Int32) =>
    some v18
def sX2_into (s0 : St) (this : Nat) (p0 : Int32) : Option (St × Int32) :=
    kd s0 this 7 <|
    bp (sX2_good s0 this) fun s2 =>
    kd s2 this 7 <|
    bp (sX2_isPlace s2 this p0) fun v5 =>
    if v5 = 0 then
    (kd s2 this 7 <|
    bd (sX2_no s2 this 1) fun s8 v9 =>
    some (s8, v9))
    else
    (kd s2 this 7 <|
    bp (sX2_asNow s2 this) fun s12 =>
    kd s12 this 7 <|
    bp (sX2_intoOf s12 this p0) fun v15 =>
    some (s12, v15))
def sX14_onto_L6 (s1 : St) (this : Nat) (i1 : Int32) : Nat → Int32 → Int32 → Option (Int32)
  | 0, _, _ => none
  | n + 1, v2, v3 =>
    gR s1 1035 (some this) fun v5 =>
    gR s1 1027 v5 fun v6 =>
    iv s1 6 v6 fun w7 =>
    bp (sJ2_size s1 w7) fun v10 =>
    if v10 ≤ v3 then
    (some v2)
    else
    (gI s1 77 (some this) fun v12 =>
    bp (sX1_has s1 v12 v3) fun v13 =>
    bp (
    if v13 = 0 then
    (gR s1 1035 (some this) fun v16 =>
    gR s1 1027 v16 fun v17 =>
    iv s1 6 v17 fun w18 =>
    bp (sJ2_get s1 w18 v3) fun v21 =>
    ck s1 [15] v21 <|
    gI s1 64 v21 fun v24 =>
    if v24 = i1 then
    (gR s1 1035 (some this) fun v25 =>
    gR s1 1027 v25 fun v26 =>
    iv s1 6 v26 fun w27 =>
    bp (sJ2_get s1 w27 v3) fun v30 =>
    ck s1 [15] v30 <|
    gI s1 63 v30 fun v33 =>
    some (v2 ||| ((1 : Int32) <<< (v33 &&& 31))))
    else
    (some v2))
    else
    (some v2)) fun (v15 : Int32) =>
    sX14_onto_L6 s1 this i1 n v15 (v3 + 1))
def sX14_onto (s0 : St) (this : Nat) (p0 : Int32) : Option Int32 :=
    bp (sX14_onto_L6 s0 this p0 FU ((1 : Int32) <<< (p0 &&& 31)) 0) fun (v36 : Int32) =>
    some v36
def sX14_watchers_L12 (s4 : St) (this : Nat) (i2 : Int32) (i3 : Int32) : Nat → Int32 → Int32 → Option (Int32)
  | 0, _, _ => none
  | n + 1, v5, v6 =>
    gR s4 1035 (some this) fun v8 =>
    gR s4 1025 v8 fun v9 =>
    iv s4 6 v9 fun w10 =>
    bp (sJ2_size s4 w10) fun v13 =>
    if v13 ≤ v6 then
    (some v5)
    else
    (kd s4 this 21 <|
    bp (sX14_at s4 this v6 i2) fun v16 =>
    bp (sX1_has s4 i3 v16) fun v18 =>
    bp (
    if v18 = 0 then
    (some 0)
    else
    (some ((1 : Int32) <<< (v6 &&& 31)))) fun (v20 : Int32) =>
    sX14_watchers_L12 s4 this i2 i3 n (v5 ||| v20) (v6 + 1))
def sX14_watchers (s0 : St) (this : Nat) (p0 : Int32) (p1 : Int32) : Option Int32 :=
    kd s0 this 21 <|
    bp (sX14_onto s0 this p0) fun v2 =>
    bp (sX14_watchers_L12 s0 this p1 v2 FU 0 0) fun (v23 : Int32) =>
    some v23
def sX1_watchers (s0 : St) (this : Nat) (p0 : Int32) (p1 : Int32) : Option (St × Int32) :=
    kd s0 this 5 <|
    bp (sX1_isPlace s0 this p0) fun v2 =>
    kd s0 this 5 <|
    bp (sX1_why s0 this v2 p1 0 59) fun v5 =>
    if v5 ≤ 0 then
    (gR s0 1002 (some this) fun v7 =>
    iv s0 21 v7 fun w8 =>
    bp (sX14_watchers s0 w8 p0 p1) fun v11 =>
    kd s0 this 5 <|
    bd (sX1_well s0 this v11) fun s14 v15 =>
    some (s14, v15))
    else
    (kd s0 this 5 <|
    bd (sX1_refused s0 this v5) fun s18 v19 =>
    some (s18, v19))
def sX2_watchersOf_L5 (s1 : St) (this : Nat) (i1 : Int32) (i2 : Int32) : Nat → Int32 → Int32 → Option (Int32)
  | 0, _, _ => none
  | n + 1, v2, v3 =>
    gR s1 1011 (some this) fun v5 =>
    lI s1 1 v5 3 fun v6 =>
    if v6 ≤ v3 then
    (some v2)
    else
    (kd s1 this 7 <|
    bp (sX2_placeOf s1 this v3 i2) fun v8 =>
    kd s1 this 7 <|
    bp (sX2_intoOf s1 this v8) fun v11 =>
    bp (sX2_hasBit s1 v11 i1) fun v13 =>
    bp (
    if v13 = 0 then
    (some 0)
    else
    (some ((1 : Int32) <<< (v3 &&& 31)))) fun (v15 : Int32) =>
    sX2_watchersOf_L5 s1 this i1 i2 n (v2 ||| v15) (v3 + 1))
def sX2_watchersOf (s0 : St) (this : Nat) (p0 : Int32) (p1 : Int32) : Option Int32 :=
    bp (sX2_watchersOf_L5 s0 this p0 p1 FU 0 0) fun (v18 : Int32) =>
    some v18
def sX2_watchers (s0 : St) (this : Nat) (p0 : Int32) (p1 : Int32) : Option (St × Int32) :=
    kd s0 this 7 <|
    bp (sX2_good s0 this) fun s2 =>
    kd s2 this 7 <|
    bp (sX2_isPlace s2 this p0) fun v5 =>
    kd s2 this 7 <|
    bp (sX2_isMinute s2 this p1) fun v8 =>
    kd s2 this 7 <|
    bp (sX2_why s2 this v5 v8) fun v11 =>
    if v11 = 0 then
    (kd s2 this 7 <|
    bp (sX2_asNow s2 this) fun s14 =>
    kd s14 this 7 <|
    bp (sX2_watchersOf s14 this p0 p1) fun v17 =>
    some (s14, v17))
    else
    (kd s2 this 7 <|
    bd (sX2_no s2 this v11) fun s20 v21 =>
    some (s20, v21))
def sX1_eyesOf (s0 : St) (this : Nat) (p0 : Int32) : Option Int32 :=
    gI s0 4 (some this) fun v1 =>
    if p0 = v1 then
    (some 2)
    else
    (gR s0 1001 (some this) fun v2 =>
    iv s0 10 v2 fun w3 =>
    bp (sX5_person s0 w3 p0) fun v6 =>
    xN v6 fun w10 =>
    bp (dv_eyes s0 w10) fun v8 =>
    some v8)
def sX1_eyesOfAll_L4 (s1 : St) (this : Nat) (i1 : Int32) : Nat → Int32 → Int32 → Option (Int32)
  | 0, _, _ => none
  | n + 1, v2, v3 =>
    kd s1 this 5 <|
    bp (sX1_people s1 this) fun v6 =>
    if v6 ≤ v3 then
    (some v2)
    else
    (bp (sX1_has s1 i1 v3) fun v8 =>
    bp (
    if v8 = 0 then
    (some 0)
    else
    (kd s1 this 5 <|
    bp (sX1_eyesOf s1 this v3) fun v12 =>
    some v12)) fun (v10 : Int32) =>
    sX1_eyesOfAll_L4 s1 this i1 n (v2 + v10) (v3 + 1))
def sX1_eyesOfAll (s0 : St) (this : Nat) (p0 : Int32) : Option Int32 :=
    bp (sX1_eyesOfAll_L4 s0 this p0 FU 0 0) fun (v16 : Int32) =>
    some v16
def sX1_eyes (s0 : St) (this : Nat) (p0 : Int32) (p1 : Int32) : Option (St × Int32) :=
    kd s0 this 5 <|
    bp (sX1_isPlace s0 this p0) fun v2 =>
    kd s0 this 5 <|
    bp (sX1_why s0 this v2 p1 0 59) fun v5 =>
    if v5 ≤ 0 then
    (gR s0 1002 (some this) fun v7 =>
    iv s0 21 v7 fun w8 =>
    bp (sX14_watchers s0 w8 p0 p1) fun v11 =>
    kd s0 this 5 <|
    bp (sX1_eyesOfAll s0 this v11) fun v14 =>
    kd s0 this 5 <|
    bd (sX1_well s0 this v14) fun s17 v18 =>
    some (s17, v18))
    else
    (kd s0 this 5 <|
    bd (sX1_refused s0 this v5) fun s21 v22 =>
    some (s21, v22))
def sX2_eyesOf_L4 (s1 : St) (this : Nat) (i1 : Int32) : Nat → Int32 → Int32 → Option (Int32)
  | 0, _, _ => none
  | n + 1, v2, v3 =>
    gR s1 1011 (some this) fun v5 =>
    lI s1 1 v5 3 fun v6 =>
    if v6 ≤ v3 then
    (some v2)
    else
    (bp (sX2_hasBit s1 i1 v3) fun v7 =>
    bp (
    if v7 = 0 then
    (some 0)
    else
    (gR s1 1018 (some this) fun v10 =>
    lI s1 1 v10 v3 fun v11 =>
    some v11)) fun (v9 : Int32) =>
    sX2_eyesOf_L4 s1 this i1 n (v2 + v9) (v3 + 1))
def sX2_eyesOf (s0 : St) (this : Nat) (p0 : Int32) : Option Int32 :=
    bp (sX2_eyesOf_L4 s0 this p0 FU 0 0) fun (v14 : Int32) =>
    some v14
def sX2_eyes (s0 : St) (this : Nat) (p0 : Int32) (p1 : Int32) : Option (St × Int32) :=
    kd s0 this 7 <|
    bp (sX2_good s0 this) fun s2 =>
    kd s2 this 7 <|
    bp (sX2_isPlace s2 this p0) fun v5 =>
    kd s2 this 7 <|
    bp (sX2_isMinute s2 this p1) fun v8 =>
    kd s2 this 7 <|
    bp (sX2_why s2 this v5 v8) fun v11 =>
    if v11 = 0 then
    (kd s2 this 7 <|
    bp (sX2_asNow s2 this) fun s14 =>
    kd s14 this 7 <|
    bp (sX2_watchersOf s14 this p0 p1) fun v17 =>
    kd s14 this 7 <|
    bp (sX2_eyesOf s14 this v17) fun v20 =>
    some (s14, v20))
    else
    (kd s2 this 7 <|
    bd (sX2_no s2 this v11) fun s23 v24 =>
    some (s23, v24))
def sX1_hidden_L36 (s6 : St) (this : Nat) (i1 : Int32) : Nat → Int32 → Int32 → Option (Int32)
  | 0, _, _ => none
  | n + 1, v7, v8 =>
    kd s6 this 5 <|
    bp (sX1_places s6 this) fun v11 =>
    if v11 ≤ v8 then
    (some v7)
    else
    (gR s6 1002 (some this) fun v13 =>
    iv s6 21 v13 fun w14 =>
    bp (sX14_watchers s6 w14 v8 i1) fun v17 =>
    kd s6 this 5 <|
    bp (sX1_eyesOfAll s6 this v17) fun v20 =>
    bp (
    if v20 = 0 then
    (some ((1 : Int32) <<< (v8 &&& 31)))
    else
    (some 0)) fun (v22 : Int32) =>
    sX1_hidden_L36 s6 this i1 n (v7 ||| v22) (v8 + 1))
def sX1_hidden (s0 : St) (this : Nat) (p0 : Int32) : Option (St × Int32) :=
    gR s0 1001 (some this) fun v1 =>
    bp (
    if v1 = none then
    (some 0)
    else
    (some 1)) fun (v2 : Int32) =>
    kd s0 this 5 <|
    bp (sX1_why s0 this v2 p0 0 59) fun v4 =>
    if v4 ≤ 0 then
    (bp (sX1_hidden_L36 s0 this p0 FU 0 0) fun (v25 : Int32) =>
    kd s0 this 5 <|
    bd (sX1_well s0 this v25) fun s27 v28 =>
    some (s27, v28))
    else
    (kd s0 this 5 <|
    bd (sX1_refused s0 this v4) fun s33 v34 =>
    some (s33, v34))
def sX2_hidden_L37 (s14 : St) (this : Nat) (i1 : Int32) : Nat → Int32 → Int32 → Option (Int32)
  | 0, _, _ => none
  | n + 1, v15, v16 =>
    gR s14 1011 (some this) fun v18 =>
    lI s14 1 v18 1 fun v19 =>
    if v19 ≤ v16 then
    (some v15)
    else
    (kd s14 this 7 <|
    bp (sX2_watchersOf s14 this v16 i1) fun v21 =>
    kd s14 this 7 <|
    bp (sX2_eyesOf s14 this v21) fun v24 =>
    bp (
    if v24 = 0 then
    (some ((1 : Int32) <<< (v16 &&& 31)))
    else
    (some 0)) fun (v26 : Int32) =>
    sX2_hidden_L37 s14 this i1 n (v15 ||| v26) (v16 + 1))
def sX2_hidden (s0 : St) (this : Nat) (p0 : Int32) : Option (St × Int32) :=
    kd s0 this 7 <|
    bp (sX2_good s0 this) fun s2 =>
    gI s2 31 (some this) fun v4 =>
    kd s2 this 7 <|
    bp (sX2_isMinute s2 this p0) fun v6 =>
    kd s2 this 7 <|
    bp (sX2_why s2 this v4 v6) fun v9 =>
    if v9 = 0 then
    (kd s2 this 7 <|
    bp (sX2_asNow s2 this) fun s12 =>
    bp (sX2_hidden_L37 s12 this p0 FU 0 0) fun (v29 : Int32) =>
    some (s12, v29))
    else
    (kd s2 this 7 <|
    bd (sX2_no s2 this v9) fun s33 v34 =>
    some (s33, v34))
def sX1_square_L33 (s14 : St) (this : Nat) (i3 : Int32) : Nat → Int32 → Int32 → Option (Int32)
  | 0, _, _ => none
  | n + 1, v15, v16 =>
    if 59 < v16 then
    (some v15)
    else
    (gR s14 1002 (some this) fun v18 =>
    iv s14 21 v18 fun w19 =>
    bp (sX14_watchers s14 w19 i3 v16) fun v22 =>
    kd s14 this 5 <|
    bp (sX1_eyesOfAll s14 this v22) fun v25 =>
    sX1_square_L33 s14 this i3 n (v15 + v25) (v16 + 1))
def sX1_square_L19 (s6 : St) (this : Nat) : Nat → Int32 → Int32 → Int32 → Option (Int32)
  | 0, _, _, _ => none
  | n + 1, v7, v8, v9 =>
    kd s6 this 5 <|
    bp (sX1_places s6 this) fun v12 =>
    if v12 ≤ v9 then
    (some v7)
    else
    (bp (sX1_square_L33 s6 this v9 FU 0 0) fun (v27 : Int32) =>
    b2 (
    if v8 < v27 then
    (some (v9, v27))
    else
    (some (v7, v8))) fun (v28 : Int32) (v29 : Int32) =>
    sX1_square_L19 s6 this n v28 v29 (v9 + 1))
def sX1_square (s0 : St) (this : Nat) : Option (St × Int32) :=
    gR s0 1001 (some this) fun v1 =>
    if v1 = none then
    (kd s0 this 5 <|
    bd (sX1_refused s0 this 1) fun s3 v4 =>
    some (s3, v4))
    else
    (bp (sX1_square_L19 s0 this FU 0 (-1) 0) fun (v34 : Int32) =>
    kd s0 this 5 <|
    bd (sX1_well s0 this v34) fun s36 v37 =>
    some (s36, v37))
def sX2_allEyes_L4 (s1 : St) (this : Nat) (i1 : Int32) : Nat → Int32 → Int32 → Option (Int32)
  | 0, _, _ => none
  | n + 1, v2, v3 =>
    if 59 < v3 then
    (some v2)
    else
    (kd s1 this 7 <|
    bp (sX2_watchersOf s1 this i1 v3) fun v6 =>
    kd s1 this 7 <|
    bp (sX2_eyesOf s1 this v6) fun v9 =>
    sX2_allEyes_L4 s1 this i1 n (v2 + v9) (v3 + 1))
def sX2_allEyes (s0 : St) (this : Nat) (p0 : Int32) : Option Int32 :=
    bp (sX2_allEyes_L4 s0 this p0 FU 0 0) fun (v11 : Int32) =>
    some v11
def sX2_square_L31 (s15 : St) (this : Nat) : Nat → Int32 → Int32 → Int32 → Option (Int32)
  | 0, _, _, _ => none
  | n + 1, v16, v17, v18 =>
    gR s15 1011 (some this) fun v20 =>
    lI s15 1 v20 1 fun v21 =>
    if v21 ≤ v18 then
    (some v16)
    else
    (kd s15 this 7 <|
    bp (sX2_allEyes s15 this v18) fun v23 =>
    b2 (
    if v17 < v23 then
    (some (v18, v23))
    else
    (some (v16, v17))) fun (v25 : Int32) (v26 : Int32) =>
    sX2_square_L31 s15 this n v25 v26 (v18 + 1))
def sX2_square (s0 : St) (this : Nat) : Option (St × Int32) :=
    kd s0 this 7 <|
    bp (sX2_good s0 this) fun s2 =>
    gI s2 31 (some this) fun v4 =>
    if v4 = 0 then
    (kd s2 this 7 <|
    bd (sX2_no s2 this 1) fun s6 v7 =>
    some (s6, v7))
    else
    (kd s2 this 7 <|
    bp (sX2_asNow s2 this) fun s10 =>
    kd s10 this 7 <|
    bp (sX2_allEyes s10 this 0) fun v13 =>
    bp (sX2_square_L31 s10 this FU 0 v13 1) fun (v29 : Int32) =>
    some (s10, v29))
def sX1_witOf_L2 (s1 : St) (this : Nat) (i1 : Int32) : Nat → Int32 → Option (Int32 ⊕ (Unit))
  | 0, _ => none
  | n + 1, v2 =>
    gR s1 1001 (some this) fun v3 =>
    gI s1 52 v3 fun v4 =>
    if v4 ≤ v2 then
    (some (.inr ()))
    else
    (gR s1 1001 (some this) fun v5 =>
    gR s1 1028 v5 fun v6 =>
    lI s1 1 v6 v2 fun v7 =>
    if v7 = i1 then
    (gI s1 5 (some this) fun v8 =>
    bp (sX1_has s1 v8 v2) fun v9 =>
    if v9 = 0 then
    (sX1_witOf_L2 s1 this i1 n (v2 + 1))
    else
    (gR s1 1001 (some this) fun v11 =>
    iv s1 10 v11 fun w12 =>
    bp (sX5_person s1 w12 i1) fun v15 =>
    gI s1 67 v15 fun v17 =>
    some (.inl v17)))
    else
    (sX1_witOf_L2 s1 this i1 n (v2 + 1)))
def sX1_witOf (s0 : St) (this : Nat) (p0 : Int32) : Option Int32 :=
    lc (sX1_witOf_L2 s0 this p0 FU 0) fun _ =>
    gR s0 1001 (some this) fun v18 =>
    iv s0 10 v18 fun w19 =>
    bp (sX5_person s0 w19 p0) fun v22 =>
    gI s0 66 v22 fun v24 =>
    some v24
def sX1_drawOf (s0 : St) (p0 : Int32) : Option Int32 :=
    dzL (65537 : Int64) <|
    some (Int64.toInt32 (((75 * (Int32.toInt64 p0)) + 74) - ((75 * (Int32.toInt64 p0)) + 74) / 65537 * 65537))
def sX1_brawls_L189 (this : Nat) (i8 : Int32) : Nat → St → Int32 → Option (St)
  | 0, _, _ => none
  | n + 1, s48, v49 =>
    if v49 < 0 then
    (some s48)
    else
    (bp (sX1_has s48 i8 v49) fun v51 =>
    bp (
    if v51 = 0 then
    (some s48)
    else
    (pI s48 10 (some this) v49 fun s54 =>
    some s54)) fun (s53 : St) =>
    sX1_brawls_L189 this i8 n s53 (v49 + (-1)))
def sX1_brawls_L56 (this : Nat) (i1 : Option Nat) (i3 : Int32) (i5 : Option Nat) (i6 : Int32) : Nat → St → Int32 → Option ((St × Int32) ⊕ (St))
  | 0, _, _ => none
  | n + 1, s19, v20 =>
    if 59 < v20 then
    (some (.inr s19))
    else
    (iv s19 21 i1 fun w22 =>
    bp (sX14_watchers s19 w22 i3 v20) fun v25 =>
    gI s19 71 i5 fun v27 =>
    gI s19 72 i5 fun v28 =>
    gI s19 9 (some this) fun v29 =>
    gI s19 9 (some this) fun v30 =>
    pI s19 9 (some this) (v30 ||| (((v25 &&& (((1 : Int32) <<< (v27 &&& 31)) ^^^ (-1))) &&& (((1 : Int32) <<< (v28 &&& 31)) ^^^ (-1))) &&& (v29 ^^^ (-1)))) fun s31 =>
    gI s31 12 (some this) fun v32 =>
    bp (
    if v32 = 0 then
    (some s31)
    else
    (gI s31 11 (some this) fun v60 =>
    bp (sX1_drawOf s31 v60) fun v61 =>
    pI s31 11 (some this) v61 fun s63 =>
    gI s63 11 (some this) fun v64 =>
    dzI (100 : Int32) <|
    gR s63 1001 (some this) fun v65 =>
    gI s63 49 v65 fun v66 =>
    if v66 ≤ (v64 - v64 / 100 * 100) then
    (some s63)
    else
    (gI s63 6 (some this) fun v67 =>
    pI s63 6 (some this) (v67 + 1) fun s68 =>
    some s68))) fun (s33 : St) =>
    pI s33 7 (some this) v20 fun s34 =>
    gI s34 9 (some this) fun v35 =>
    kd s34 this 5 <|
    bp (sX1_eyesOfAll s34 this v35) fun v37 =>
    gI s34 6 (some this) fun v39 =>
    if (v37 + (2 * v39)) < 6 then
    (gI s34 8 (some this) fun v40 =>
    pI s34 8 (some this) (v40 + i6) fun s41 =>
    gI s41 8 (some this) fun v42 =>
    gI s41 75 i5 fun v43 =>
    if (abI v42) < v43 then
    (sX1_brawls_L56 this i1 i3 i5 i6 n s41 (v20 + 1))
    else
    (gI s41 8 (some this) fun v44 =>
    if v44 ≤ 0 then
    (some (.inl (s41, 2)))
    else
    (some (.inl (s41, 1)))))
    else
    (kd s34 this 5 <|
    bp (sX1_people s34 this) fun v46 =>
    bp (sX1_brawls_L189 this (((v25 &&& (((1 : Int32) <<< (v27 &&& 31)) ^^^ (-1))) &&& (((1 : Int32) <<< (v28 &&& 31)) ^^^ (-1))) &&& (v29 ^^^ (-1))) FU s34 (v46 - 1)) fun (s57 : St) =>
    some (.inl (s57, 0))))
def sX1_brawls (s0 : St) (this : Nat) (p0 : Option Nat) (p1 : Int32) (p2 : Int32) (p3 : Int32) : Option (St × Int32) :=
    gR s0 1001 (some this) fun v1 =>
    iv s0 10 v1 fun w2 =>
    bp (sX5_quarrel s0 w2 p1) fun v5 =>
    gI s0 71 v5 fun v7 =>
    kd s0 this 5 <|
    bp (sX1_witOf s0 this v7) fun v9 =>
    gI s0 72 v5 fun v11 =>
    kd s0 this 5 <|
    bp (sX1_witOf s0 this v11) fun v13 =>
    pI s0 9 (some this) 0 fun s15 =>
    pI s15 8 (some this) 0 fun s16 =>
    pI s16 10 (some this) (-2) fun s17 =>
    pI s17 6 (some this) 0 fun s18 =>
    lc (sX1_brawls_L56 this p0 p2 v5 (v9 - v13) FU s18 p3) fun (s71 : St) =>
    pI s71 7 (some this) (-2) fun s72 =>
    some (s72, (-2))
def sX1_brawlsOn (s0 : St) (this : Nat) (p0 : Option Nat) (p1 : Int32) : Option (St × Int32) :=
    gR s0 1001 (some this) fun v1 =>
    iv s0 10 v1 fun w2 =>
    bp (sX5_quarrel s0 w2 p1) fun v5 =>
    gI s0 73 v5 fun v7 =>
    gR s0 1001 (some this) fun v8 =>
    iv s0 10 v8 fun w9 =>
    bp (sX5_quarrel s0 w9 p1) fun v12 =>
    gI s0 74 v12 fun v14 =>
    kd s0 this 5 <|
    bd (sX1_brawls s0 this p0 p1 v7 v14) fun s16 v17 =>
    some (s16, v17)
def sX1_brawlsNow (s0 : St) (this : Nat) (p0 : Int32) : Option (St × Int32) :=
    gR s0 1002 (some this) fun v1 =>
    kd s0 this 5 <|
    bd (sX1_brawlsOn s0 this v1 p0) fun s3 v4 =>
    some (s3, v4)
def sX1_ends (s0 : St) (this : Nat) (p0 : Int32) : Option (St × Int32) :=
    kd s0 this 5 <|
    bp (sX1_isQuarrel s0 this p0) fun v2 =>
    if v2 = 0 then
    (kd s0 this 5 <|
    bd (sX1_refused s0 this 1) fun s5 v6 =>
    some (s5, v6))
    else
    (kd s0 this 5 <|
    bd (sX1_brawlsNow s0 this p0) fun s9 v10 =>
    kd s9 this 5 <|
    bd (sX1_well s9 this v10) fun s13 v14 =>
    some (s13, v14))
def sX2_comesBoy (s0 : St) (this : Nat) (p0 : Int32) : Option (St × Int32) :=
    gI s0 39 (some this) fun v1 =>
    if v1 < 0 then
    (gI s0 40 (some this) fun v2 =>
    dzI (65537 : Int32) <|
    pI s0 40 (some this) (((75 * v2) + 74) - ((75 * v2) + 74) / 65537 * 65537) fun s3 =>
    gI s3 40 (some this) fun v4 =>
    dzI (100 : Int32) <|
    gR s3 1011 (some this) fun v5 =>
    lI s3 1 v5 0 fun v6 =>
    if v6 ≤ (v4 - v4 / 100 * 100) then
    (some (s3, 0))
    else
    (some (s3, 1)))
    else
    (if 6 ≤ p0 then
    (some (s0, 0))
    else
    (gI s0 39 (some this) fun v7 =>
    bp (sX2_hasBit s0 v7 p0) fun v8 =>
    if v8 = 0 then
    (some (s0, 0))
    else
    (some (s0, 1))))
def sX2_run_L59 (this : Nat) (i2 : Int32) (i3 : Int32) (i4 : Int32) (i5 : Int32) (i6 : Int32) : Nat → St → Int32 → Int32 → Option (St ⊕ (St))
  | 0, _, _, _ => none
  | n + 1, s9, v10, v11 =>
    if 59 < v11 then
    (some (.inr s9))
    else
    (gI s9 37 (some this) fun v13 =>
    pI s9 38 (some this) v13 fun s14 =>
    gI s14 37 (some this) fun v15 =>
    kd s14 this 7 <|
    bp (sX2_watchersOf s14 this i2 v11) fun v17 =>
    pI s14 37 (some this) (v15 ||| (v17 &&& (i6 ^^^ (-1)))) fun s19 =>
    b2 (
    if i4 = 0 then
    (some (s19, 0))
    else
    (kd s19 this 7 <|
    bd (sX2_comesBoy s19 this (v11 - i3)) fun s57 v58 =>
    if v58 = 0 then
    (some (s57, 0))
    else
    (some (s57, 1)))) fun (s20 : St) (v21 : Int32) =>
    gI s20 37 (some this) fun v22 =>
    kd s20 this 7 <|
    bp (sX2_eyesOf s20 this v22) fun v24 =>
    if (v24 + (2 * (v10 + v21))) < 6 then
    (gI s20 36 (some this) fun v26 =>
    gR s20 1017 (some this) fun v27 =>
    gR s20 1011 (some this) fun v28 =>
    lI s20 1 v28 i5 fun v29 =>
    lI s20 1 v27 v29 fun v30 =>
    gR s20 1017 (some this) fun v31 =>
    gR s20 1011 (some this) fun v32 =>
    lI s20 1 v32 (i5 + 1) fun v33 =>
    lI s20 1 v31 v33 fun v34 =>
    pI s20 36 (some this) (v26 + (v30 - v34)) fun s35 =>
    gI s35 36 (some this) fun v36 =>
    gR s35 1011 (some this) fun v37 =>
    lI s35 1 v37 (i5 + 4) fun v38 =>
    if v38 ≤ v36 then
    (gI s35 36 (some this) fun v39 =>
    bp (
    if v39 ≤ 0 then
    (some 2)
    else
    (some 1)) fun (v40 : Int32) =>
    pI s35 34 (some this) v40 fun s41 =>
    pI s41 35 (some this) v11 fun s42 =>
    some (.inl s42))
    else
    (gI s35 36 (some this) fun v45 =>
    gR s35 1011 (some this) fun v46 =>
    lI s35 1 v46 (i5 + 4) fun v47 =>
    if v47 ≤ (-v45) then
    (gI s35 36 (some this) fun v48 =>
    bp (
    if v48 ≤ 0 then
    (some 2)
    else
    (some 1)) fun (v49 : Int32) =>
    pI s35 34 (some this) v49 fun s50 =>
    pI s50 35 (some this) v11 fun s51 =>
    some (.inl s51))
    else
    (sX2_run_L59 this i2 i3 i4 i5 i6 n s35 (v10 + v21) (v11 + 1))))
    else
    (pI s20 34 (some this) 0 fun s54 =>
    pI s54 35 (some this) v11 fun s55 =>
    some (.inl s55)))
def sX2_run (s0 : St) (this : Nat) (p0 : Int32) (p1 : Int32) (p2 : Int32) (p3 : Int32) : Option St :=
    gR s0 1011 (some this) fun v1 =>
    lI s0 1 v1 (80 + (5 * p0)) fun v2 =>
    gR s0 1011 (some this) fun v3 =>
    lI s0 1 v3 ((80 + (5 * p0)) + 1) fun v4 =>
    pI s0 34 (some this) (-2) fun s5 =>
    pI s5 35 (some this) (-2) fun s6 =>
    pI s6 36 (some this) 0 fun s7 =>
    pI s7 37 (some this) 0 fun s8 =>
    lc (sX2_run_L59 this p1 p2 p3 (80 + (5 * p0)) (((1 : Int32) <<< (v2 &&& 31)) ||| ((1 : Int32) <<< (v4 &&& 31))) FU s8 0 p2) fun (s62 : St) =>
    some s62
def sX2_runTold (s0 : St) (this : Nat) (p0 : Int32) : Option St :=
    gR s0 1011 (some this) fun v1 =>
    lI s0 1 v1 ((80 + (5 * p0)) + 2) fun v2 =>
    gR s0 1011 (some this) fun v3 =>
    lI s0 1 v3 ((80 + (5 * p0)) + 3) fun v4 =>
    kd s0 this 7 <|
    bp (sX2_run s0 this p0 v2 v4 0) fun s6 =>
    some s6
def sX2_goOver (s0 : St) (this : Nat) (p0 : Int32) : Option (St × Int32) :=
    kd s0 this 7 <|
    bp (sX2_isQuarrel s0 this p0) fun v2 =>
    if v2 = 0 then
    (some (s0, 0))
    else
    (kd s0 this 7 <|
    bp (sX2_asNow s0 this) fun s5 =>
    kd s5 this 7 <|
    bp (sX2_runTold s5 this p0) fun s8 =>
    some (s8, 1))
def sX2_ends (s0 : St) (this : Nat) (p0 : Int32) : Option (St × Int32) :=
    kd s0 this 7 <|
    bp (sX2_good s0 this) fun s2 =>
    kd s2 this 7 <|
    bd (sX2_goOver s2 this p0) fun s5 v6 =>
    if v6 = 0 then
    (kd s5 this 7 <|
    bd (sX2_no s5 this 1) fun s9 v10 =>
    some (s9, v10))
    else
    (gI s5 34 (some this) fun v12 =>
    some (s5, v12))
def sX1_endsAt (s0 : St) (this : Nat) (p0 : Int32) : Option (St × Int32) :=
    kd s0 this 5 <|
    bp (sX1_isQuarrel s0 this p0) fun v2 =>
    if v2 = 0 then
    (kd s0 this 5 <|
    bd (sX1_refused s0 this 1) fun s5 v6 =>
    some (s5, v6))
    else
    (kd s0 this 5 <|
    bd (sX1_brawlsNow s0 this p0) fun s9 v10 =>
    gI s9 7 (some this) fun v12 =>
    kd s9 this 5 <|
    bd (sX1_well s9 this v12) fun s14 v15 =>
    some (s14, v15))
def sX2_endsAt (s0 : St) (this : Nat) (p0 : Int32) : Option (St × Int32) :=
    kd s0 this 7 <|
    bp (sX2_good s0 this) fun s2 =>
    kd s2 this 7 <|
    bd (sX2_goOver s2 this p0) fun s5 v6 =>
    if v6 = 0 then
    (kd s5 this 7 <|
    bd (sX2_no s5 this 1) fun s9 v10 =>
    some (s9, v10))
    else
    (gI s5 35 (some this) fun v12 =>
    some (s5, v12))
def sX1_lead (s0 : St) (this : Nat) (p0 : Int32) : Option (St × Int32) :=
    kd s0 this 5 <|
    bp (sX1_isQuarrel s0 this p0) fun v2 =>
    if v2 = 0 then
    (kd s0 this 5 <|
    bd (sX1_refused s0 this 1) fun s5 v6 =>
    some (s5, v6))
    else
    (kd s0 this 5 <|
    bd (sX1_brawlsNow s0 this p0) fun s9 v10 =>
    gI s9 8 (some this) fun v12 =>
    kd s9 this 5 <|
    bd (sX1_well s9 this (1000 + v12)) fun s14 v15 =>
    some (s14, v15))
def sX2_lead (s0 : St) (this : Nat) (p0 : Int32) : Option (St × Int32) :=
    kd s0 this 7 <|
    bp (sX2_good s0 this) fun s2 =>
    kd s2 this 7 <|
    bd (sX2_goOver s2 this p0) fun s5 v6 =>
    if v6 = 0 then
    (kd s5 this 7 <|
    bd (sX2_no s5 this 1) fun s9 v10 =>
    some (s9, v10))
    else
    (gI s5 36 (some this) fun v12 =>
    some (s5, (v12 + 1000)))
def sX1_seen (s0 : St) (this : Nat) (p0 : Int32) : Option (St × Int32) :=
    kd s0 this 5 <|
    bp (sX1_isQuarrel s0 this p0) fun v2 =>
    if v2 = 0 then
    (kd s0 this 5 <|
    bd (sX1_refused s0 this 1) fun s5 v6 =>
    some (s5, v6))
    else
    (kd s0 this 5 <|
    bd (sX1_brawlsNow s0 this p0) fun s9 v10 =>
    gI s9 9 (some this) fun v12 =>
    kd s9 this 5 <|
    bd (sX1_well s9 this v12) fun s14 v15 =>
    some (s14, v15))
def sX2_seen (s0 : St) (this : Nat) (p0 : Int32) : Option (St × Int32) :=
    kd s0 this 7 <|
    bp (sX2_good s0 this) fun s2 =>
    kd s2 this 7 <|
    bd (sX2_goOver s2 this p0) fun s5 v6 =>
    if v6 = 0 then
    (kd s5 this 7 <|
    bd (sX2_no s5 this 1) fun s9 v10 =>
    some (s9, v10))
    else
    (gI s5 37 (some this) fun v12 =>
    some (s5, v12))
def sX1_third (s0 : St) (this : Nat) (p0 : Int32) : Option (St × Int32) :=
    kd s0 this 5 <|
    bp (sX1_isQuarrel s0 this p0) fun v2 =>
    if v2 = 0 then
    (kd s0 this 5 <|
    bd (sX1_refused s0 this 1) fun s5 v6 =>
    some (s5, v6))
    else
    (kd s0 this 5 <|
    bd (sX1_brawlsNow s0 this p0) fun s9 v10 =>
    gI s9 10 (some this) fun v12 =>
    kd s9 this 5 <|
    bd (sX1_well s9 this v12) fun s14 v15 =>
    some (s14, v15))
def sX2_third_L20 (s12 : St) (this : Nat) : Nat → Int32 → Option ((St × Int32) ⊕ (Unit))
  | 0, _ => none
  | n + 1, v13 =>
    gR s12 1011 (some this) fun v14 =>
    lI s12 1 v14 3 fun v15 =>
    if v15 ≤ v13 then
    (some (.inr ()))
    else
    (gI s12 34 (some this) fun v16 =>
    if v16 = 0 then
    (gI s12 37 (some this) fun v17 =>
    gI s12 38 (some this) fun v18 =>
    bp (sX2_hasBit s12 (v17 &&& (v18 ^^^ (-1))) v13) fun v19 =>
    if v19 = 0 then
    (sX2_third_L20 s12 this n (v13 + 1))
    else
    (some (.inl (s12, v13))))
    else
    (some (.inr ())))
def sX2_third (s0 : St) (this : Nat) (p0 : Int32) : Option (St × Int32) :=
    kd s0 this 7 <|
    bp (sX2_good s0 this) fun s2 =>
    kd s2 this 7 <|
    bd (sX2_goOver s2 this p0) fun s5 v6 =>
    if v6 = 0 then
    (kd s5 this 7 <|
    bd (sX2_no s5 this 1) fun s9 v10 =>
    some (s9, v10))
    else
    (lc (sX2_third_L20 s5 this FU 0) fun _ =>
    some (s5, (-2)))
def sX1_won_L17 (this : Nat) : Nat → St → Int32 → Int32 → Option (St × Int32)
  | 0, _, _, _ => none
  | n + 1, s6, v7, v8 =>
    kd s6 this 5 <|
    bp (sX1_quarrels s6 this) fun v12 =>
    if v12 ≤ v8 then
    (some (s6, v7))
    else
    (kd s6 this 5 <|
    bd (sX1_brawlsNow s6 this v8) fun s15 v16 =>
    bp (
    if v16 ≤ 0 then
    (some 0)
    else
    (some ((1 : Int32) <<< (v8 &&& 31)))) fun (v18 : Int32) =>
    sX1_won_L17 this n s15 (v7 ||| v18) (v8 + 1))
def sX1_won (s0 : St) (this : Nat) : Option (St × Int32) :=
    gR s0 1001 (some this) fun v1 =>
    if v1 = none then
    (kd s0 this 5 <|
    bd (sX1_refused s0 this 1) fun s3 v4 =>
    some (s3, v4))
    else
    (b2 (sX1_won_L17 this FU s0 0 0) fun (s21 : St) (v22 : Int32) =>
    kd s21 this 5 <|
    bd (sX1_well s21 this v22) fun s24 v25 =>
    some (s24, v25))
def sX2_won_L21 (this : Nat) : Nat → St → Int32 → Int32 → Option (St × Int32)
  | 0, _, _, _ => none
  | n + 1, s9, v10, v11 =>
    gR s9 1011 (some this) fun v14 =>
    lI s9 1 v14 5 fun v15 =>
    if v15 ≤ v11 then
    (some (s9, v10))
    else
    (kd s9 this 7 <|
    bd (sX2_goOver s9 this v11) fun s17 v18 =>
    bp (
    if v18 = 0 then
    (some 0)
    else
    (gI s17 34 (some this) fun v21 =>
    if v21 ≤ 0 then
    (some 0)
    else
    (some ((1 : Int32) <<< (v11 &&& 31))))) fun (v20 : Int32) =>
    sX2_won_L21 this n s17 (v10 ||| v20) (v11 + 1))
def sX2_won (s0 : St) (this : Nat) : Option (St × Int32) :=
    kd s0 this 7 <|
    bp (sX2_good s0 this) fun s2 =>
    gI s2 31 (some this) fun v4 =>
    if v4 = 0 then
    (kd s2 this 7 <|
    bd (sX2_no s2 this 1) fun s6 v7 =>
    some (s6, v7))
    else
    (b2 (sX2_won_L21 this FU s2 0 0) fun (s24 : St) (v25 : Int32) =>
    some (s24, v25))
def sX1_stoppedOn_L4 (this : Nat) (i1 : Option Nat) : Nat → St → Int32 → Int32 → Option (St × Int32)
  | 0, _, _, _ => none
  | n + 1, s1, v2, v3 =>
    kd s1 this 5 <|
    bp (sX1_quarrels s1 this) fun v7 =>
    if v7 ≤ v3 then
    (some (s1, v2))
    else
    (kd s1 this 5 <|
    bd (sX1_brawlsOn s1 this i1 v3) fun s10 v11 =>
    bp (
    if v11 = 0 then
    (some ((1 : Int32) <<< (v3 &&& 31)))
    else
    (some 0)) fun (v13 : Int32) =>
    sX1_stoppedOn_L4 this i1 n s10 (v2 ||| v13) (v3 + 1))
def sX1_stoppedOn (s0 : St) (this : Nat) (p0 : Option Nat) : Option (St × Int32) :=
    b2 (sX1_stoppedOn_L4 this p0 FU s0 0 0) fun (s16 : St) (v17 : Int32) =>
    some (s16, v17)
def sX1_bits_L4 : Nat → Int32 → Int32 → Option (Int32)
  | 0, _, _ => none
  | n + 1, v2, v3 =>
    if v3 = 0 then
    (some v2)
    else
    (sX1_bits_L4 n (v2 + 1) (v3 &&& (v3 - 1)))
def sX1_bits (s0 : St) (p0 : Int32) : Option Int32 :=
    bp (sX1_bits_L4 FU 0 p0) fun (v5 : Int32) =>
    some v5
def sX1_nurse_L30 (this : Nat) : Nat → St → Int32 → Int32 → Int32 → Option (St × Int32)
  | 0, _, _, _, _ => none
  | n + 1, s13, v14, v15, v16 =>
    kd s13 this 5 <|
    bp (sX1_people s13 this) fun v20 =>
    if v20 ≤ v16 then
    (some (s13, v15))
    else
    (pI s13 4 (some this) v16 fun s22 =>
    gR s22 1002 (some this) fun v23 =>
    kd s22 this 5 <|
    bd (sX1_stoppedOn s22 this v23) fun s25 v26 =>
    bp (sX1_bits s25 v26) fun v28 =>
    b2 (
    if v14 < v28 then
    (some (v28, v16))
    else
    (some (v14, v15))) fun (v30 : Int32) (v31 : Int32) =>
    sX1_nurse_L30 this n s25 v30 v31 (v16 + 1))
def sX1_nurse (s0 : St) (this : Nat) : Option (St × Int32) :=
    gR s0 1001 (some this) fun v1 =>
    if v1 = none then
    (kd s0 this 5 <|
    bd (sX1_refused s0 this 1) fun s3 v4 =>
    some (s3, v4))
    else
    (gR s0 1002 (some this) fun v6 =>
    kd s0 this 5 <|
    bd (sX1_stoppedOn s0 this v6) fun s8 v9 =>
    bp (sX1_bits s8 v9) fun v11 =>
    b2 (sX1_nurse_L30 this FU s8 v11 (-2) 0) fun (s34 : St) (v35 : Int32) =>
    pI s34 4 (some this) (-1) fun s36 =>
    kd s36 this 5 <|
    bd (sX1_well s36 this v35) fun s38 v39 =>
    some (s38, v39))
def sX2_stopped_L4 (this : Nat) : Nat → St → Int32 → Int32 → Option (St × Int32)
  | 0, _, _, _ => none
  | n + 1, s1, v2, v3 =>
    gR s1 1011 (some this) fun v6 =>
    lI s1 1 v6 5 fun v7 =>
    if v7 ≤ v3 then
    (some (s1, v2))
    else
    (kd s1 this 7 <|
    bp (sX2_runTold s1 this v3) fun s9 =>
    gI s9 34 (some this) fun v11 =>
    bp (
    if v11 = 0 then
    (some ((1 : Int32) <<< (v3 &&& 31)))
    else
    (some 0)) fun (v12 : Int32) =>
    sX2_stopped_L4 this n s9 (v2 ||| v12) (v3 + 1))
def sX2_stopped (s0 : St) (this : Nat) : Option (St × Int32) :=
    b2 (sX2_stopped_L4 this FU s0 0 0) fun (s15 : St) (v16 : Int32) =>
    some (s15, v16)
def sX2_ones_L4 (i0 : Int32) : Nat → Int32 → Int32 → Option (Int32)
  | 0, _, _ => none
  | n + 1, v2, v3 =>
    if 8 ≤ v3 then
    (some v2)
    else
    (sX2_ones_L4 i0 n (v2 + ((i0 >>> (v3 &&& 31)) &&& 1)) (v3 + 1))
def sX2_ones (s0 : St) (p0 : Int32) : Option Int32 :=
    bp (sX2_ones_L4 p0 FU 0 0) fun (v5 : Int32) =>
    some v5
def sX2_nurse_L34 (this : Nat) : Nat → St → Int32 → Int32 → Int32 → Option (St × Int32)
  | 0, _, _, _, _ => none
  | n + 1, s18, v19, v20, v21 =>
    gR s18 1011 (some this) fun v24 =>
    lI s18 1 v24 3 fun v25 =>
    if v25 ≤ v21 then
    (some (s18, v20))
    else
    (kd s18 this 7 <|
    bp (sX2_asNow s18 this) fun s27 =>
    gR s27 1018 (some this) fun v29 =>
    tI s27 v29 v21 2 fun s30 =>
    kd s30 this 7 <|
    bd (sX2_stopped s30 this) fun s32 v33 =>
    bp (sX2_ones s32 v33) fun v35 =>
    b2 (
    if v19 < v35 then
    (some (v35, v21))
    else
    (some (v19, v20))) fun (v37 : Int32) (v38 : Int32) =>
    sX2_nurse_L34 this n s32 v37 v38 (v21 + 1))
def sX2_nurse (s0 : St) (this : Nat) : Option (St × Int32) :=
    kd s0 this 7 <|
    bp (sX2_good s0 this) fun s2 =>
    gI s2 31 (some this) fun v4 =>
    if v4 = 0 then
    (kd s2 this 7 <|
    bd (sX2_no s2 this 1) fun s6 v7 =>
    some (s6, v7))
    else
    (kd s2 this 7 <|
    bp (sX2_asNow s2 this) fun s10 =>
    kd s10 this 7 <|
    bd (sX2_stopped s10 this) fun s13 v14 =>
    bp (sX2_ones s13 v14) fun v16 =>
    b2 (sX2_nurse_L34 this FU s13 v16 (-2) 0) fun (s41 : St) (v42 : Int32) =>
    some (s41, v42))
def sX1_endsIf (s0 : St) (this : Nat) (p0 : Int32) (p1 : Int32) (p2 : Int32) : Option (St × Int32) :=
    kd s0 this 5 <|
    bp (sX1_isQuarrel s0 this p0) fun v2 =>
    bp (
    if v2 = 0 then
    (some 0)
    else
    (kd s0 this 5 <|
    bp (sX1_isPlace s0 this p1) fun v22 =>
    if v22 = 0 then
    (some 0)
    else
    (some 1))) fun (v4 : Int32) =>
    kd s0 this 5 <|
    bp (sX1_why s0 this v4 p2 0 59) fun v6 =>
    if v6 ≤ 0 then
    (gR s0 1002 (some this) fun v8 =>
    kd s0 this 5 <|
    bd (sX1_brawls s0 this v8 p0 p1 p2) fun s10 v11 =>
    kd s10 this 5 <|
    bd (sX1_well s10 this v11) fun s14 v15 =>
    some (s14, v15))
    else
    (kd s0 this 5 <|
    bd (sX1_refused s0 this v6) fun s18 v19 =>
    some (s18, v19))
def sX2_endsIf (s0 : St) (this : Nat) (p0 : Int32) (p1 : Int32) (p2 : Int32) : Option (St × Int32) :=
    kd s0 this 7 <|
    bp (sX2_good s0 this) fun s2 =>
    kd s2 this 7 <|
    bp (sX2_isQuarrel s2 this p0) fun v5 =>
    bp (
    if v5 = 0 then
    (some 0)
    else
    (kd s2 this 7 <|
    bp (sX2_isPlace s2 this p1) fun v26 =>
    if v26 = 0 then
    (some 0)
    else
    (some 1))) fun (v7 : Int32) =>
    kd s2 this 7 <|
    bp (sX2_isMinute s2 this p2) fun v9 =>
    kd s2 this 7 <|
    bp (sX2_why s2 this v7 v9) fun v12 =>
    if v12 = 0 then
    (kd s2 this 7 <|
    bp (sX2_asNow s2 this) fun s15 =>
    kd s15 this 7 <|
    bp (sX2_run s15 this p0 p1 p2 0) fun s18 =>
    gI s18 34 (some this) fun v20 =>
    some (s18, v20))
    else
    (kd s2 this 7 <|
    bd (sX2_no s2 this v12) fun s22 v23 =>
    some (s22, v23))
def sX1_isWon (s0 : St) (p0 : Int32) : Option Int32 :=
    if p0 ≤ 0 then
    (some 0)
    else
    (some 1)
def sX1_cellars_L18 (this : Nat) (i1 : Int32) : Nat → St → Int32 → Int32 → Option (St × Int32)
  | 0, _, _, _ => none
  | n + 1, s8, v9, v10 =>
    kd s8 this 5 <|
    bp (sX1_places s8 this) fun v14 =>
    if v14 ≤ v10 then
    (some (s8, v9))
    else
    (gR s8 1002 (some this) fun v16 =>
    gR s8 1001 (some this) fun v17 =>
    iv s8 10 v17 fun w18 =>
    bp (sX5_quarrel s8 w18 i1) fun v21 =>
    gI s8 74 v21 fun v23 =>
    kd s8 this 5 <|
    bd (sX1_brawls s8 this v16 i1 v10 v23) fun s25 v26 =>
    bp (sX1_isWon s25 v26) fun v28 =>
    bp (
    if v28 = 0 then
    (some 0)
    else
    (some ((1 : Int32) <<< (v10 &&& 31)))) fun (v30 : Int32) =>
    sX1_cellars_L18 this i1 n s25 (v9 ||| v30) (v10 + 1))
def sX1_cellars (s0 : St) (this : Nat) (p0 : Int32) : Option (St × Int32) :=
    kd s0 this 5 <|
    bp (sX1_isQuarrel s0 this p0) fun v2 =>
    if v2 = 0 then
    (kd s0 this 5 <|
    bd (sX1_refused s0 this 1) fun s5 v6 =>
    some (s5, v6))
    else
    (b2 (sX1_cellars_L18 this p0 FU s0 0 0) fun (s33 : St) (v34 : Int32) =>
    kd s33 this 5 <|
    bd (sX1_well s33 this v34) fun s36 v37 =>
    some (s36, v37))
def sX2_cellars_L26 (this : Nat) (i1 : Int32) : Nat → St → Int32 → Int32 → Option (St × Int32)
  | 0, _, _, _ => none
  | n + 1, s14, v15, v16 =>
    gR s14 1011 (some this) fun v19 =>
    lI s14 1 v19 1 fun v20 =>
    if v20 ≤ v16 then
    (some (s14, v15))
    else
    (gR s14 1011 (some this) fun v21 =>
    lI s14 1 v21 ((80 + (5 * i1)) + 3) fun v22 =>
    kd s14 this 7 <|
    bp (sX2_run s14 this i1 v16 v22 0) fun s24 =>
    gI s24 34 (some this) fun v26 =>
    bp (
    if v26 ≤ 0 then
    (some 0)
    else
    (some ((1 : Int32) <<< (v16 &&& 31)))) fun (v27 : Int32) =>
    sX2_cellars_L26 this i1 n s24 (v15 ||| v27) (v16 + 1))
def sX2_cellars (s0 : St) (this : Nat) (p0 : Int32) : Option (St × Int32) :=
    kd s0 this 7 <|
    bp (sX2_good s0 this) fun s2 =>
    kd s2 this 7 <|
    bp (sX2_isQuarrel s2 this p0) fun v5 =>
    if v5 = 0 then
    (kd s2 this 7 <|
    bd (sX2_no s2 this 1) fun s8 v9 =>
    some (s8, v9))
    else
    (kd s2 this 7 <|
    bp (sX2_asNow s2 this) fun s12 =>
    b2 (sX2_cellars_L26 this p0 FU s12 0 0) fun (s30 : St) (v31 : Int32) =>
    some (s30, v31))
def sX1_hour_L16 (this : Nat) (i1 : Int32) : Nat → St → Int32 → Option ((St × Int32) ⊕ (St))
  | 0, _, _ => none
  | n + 1, s8, v9 =>
    if 59 < v9 then
    (some (.inr s8))
    else
    (gR s8 1002 (some this) fun v11 =>
    gR s8 1001 (some this) fun v12 =>
    iv s8 10 v12 fun w13 =>
    bp (sX5_quarrel s8 w13 i1) fun v16 =>
    gI s8 73 v16 fun v18 =>
    kd s8 this 5 <|
    bd (sX1_brawls s8 this v11 i1 v18 v9) fun s20 v21 =>
    bp (sX1_isWon s20 v21) fun v23 =>
    if v23 = 0 then
    (sX1_hour_L16 this i1 n s20 (v9 + 1))
    else
    (kd s20 this 5 <|
    bd (sX1_well s20 this v9) fun s26 v27 =>
    some (.inl (s26, v27))))
def sX1_hour (s0 : St) (this : Nat) (p0 : Int32) : Option (St × Int32) :=
    kd s0 this 5 <|
    bp (sX1_isQuarrel s0 this p0) fun v2 =>
    if v2 = 0 then
    (kd s0 this 5 <|
    bd (sX1_refused s0 this 1) fun s5 v6 =>
    some (s5, v6))
    else
    (lc (sX1_hour_L16 this p0 FU s0 0) fun (s29 : St) =>
    kd s29 this 5 <|
    bd (sX1_well s29 this (-2)) fun s31 v32 =>
    some (s31, v32))
def sX2_hour_L24 (this : Nat) (i1 : Int32) : Nat → St → Int32 → Option ((St × Int32) ⊕ (St))
  | 0, _, _ => none
  | n + 1, s14, v15 =>
    if 59 < v15 then
    (some (.inr s14))
    else
    (gR s14 1011 (some this) fun v17 =>
    lI s14 1 v17 ((80 + (5 * i1)) + 2) fun v18 =>
    kd s14 this 7 <|
    bp (sX2_run s14 this i1 v18 v15 0) fun s20 =>
    gI s20 34 (some this) fun v22 =>
    if v22 ≤ 0 then
    (sX2_hour_L24 this i1 n s20 (v15 + 1))
    else
    (some (.inl (s20, v15))))
def sX2_hour (s0 : St) (this : Nat) (p0 : Int32) : Option (St × Int32) :=
    kd s0 this 7 <|
    bp (sX2_good s0 this) fun s2 =>
    kd s2 this 7 <|
    bp (sX2_isQuarrel s2 this p0) fun v5 =>
    if v5 = 0 then
    (kd s2 this 7 <|
    bd (sX2_no s2 this 1) fun s8 v9 =>
    some (s8, v9))
    else
    (kd s2 this 7 <|
    bp (sX2_asNow s2 this) fun s12 =>
    lc (sX2_hour_L24 this p0 FU s12 0) fun (s23 : St) =>
    some (s23, (-2)))
def sX1_longest_L21 (this : Nat) (i1 : Int32) : Nat → St → Int32 → Int32 → Int32 → Option (St × Int32)
  | 0, _, _, _, _ => none
  | n + 1, s8, v9, v10, v11 =>
    kd s8 this 5 <|
    bp (sX1_places s8 this) fun v15 =>
    if v15 ≤ v11 then
    (some (s8, v9))
    else
    (gR s8 1002 (some this) fun v17 =>
    gR s8 1001 (some this) fun v18 =>
    iv s8 10 v18 fun w19 =>
    bp (sX5_quarrel s8 w19 i1) fun v22 =>
    gI s8 74 v22 fun v24 =>
    kd s8 this 5 <|
    bd (sX1_brawls s8 this v17 i1 v11 v24) fun s26 v27 =>
    bp (
    if v27 = (-2) then
    (some 9999)
    else
    (gI s26 7 (some this) fun v34 =>
    some v34)) fun (v29 : Int32) =>
    b2 (
    if v10 < v29 then
    (some (v11, v29))
    else
    (some (v9, v10))) fun (v30 : Int32) (v31 : Int32) =>
    sX1_longest_L21 this i1 n s26 v30 v31 (v11 + 1))
def sX1_longest (s0 : St) (this : Nat) (p0 : Int32) : Option (St × Int32) :=
    kd s0 this 5 <|
    bp (sX1_isQuarrel s0 this p0) fun v2 =>
    if v2 = 0 then
    (kd s0 this 5 <|
    bd (sX1_refused s0 this 1) fun s5 v6 =>
    some (s5, v6))
    else
    (b2 (sX1_longest_L21 this p0 FU s0 0 (-1) 0) fun (s37 : St) (v38 : Int32) =>
    kd s37 this 5 <|
    bd (sX1_well s37 this v38) fun s40 v41 =>
    some (s40, v41))
def sX2_longest_L29 (this : Nat) (i1 : Int32) : Nat → St → Int32 → Int32 → Int32 → Option (St × Int32)
  | 0, _, _, _, _ => none
  | n + 1, s14, v15, v16, v17 =>
    gR s14 1011 (some this) fun v20 =>
    lI s14 1 v20 1 fun v21 =>
    if v21 ≤ v17 then
    (some (s14, v15))
    else
    (gR s14 1011 (some this) fun v22 =>
    lI s14 1 v22 ((80 + (5 * i1)) + 3) fun v23 =>
    kd s14 this 7 <|
    bp (sX2_run s14 this i1 v17 v23 0) fun s25 =>
    gI s25 34 (some this) fun v27 =>
    bp (
    if v27 = (-2) then
    (some 60)
    else
    (gI s25 35 (some this) fun v33 =>
    some v33)) fun (v28 : Int32) =>
    b2 (
    if v16 < v28 then
    (some (v17, v28))
    else
    (some (v15, v16))) fun (v29 : Int32) (v30 : Int32) =>
    sX2_longest_L29 this i1 n s25 v29 v30 (v17 + 1))
def sX2_longest (s0 : St) (this : Nat) (p0 : Int32) : Option (St × Int32) :=
    kd s0 this 7 <|
    bp (sX2_good s0 this) fun s2 =>
    kd s2 this 7 <|
    bp (sX2_isQuarrel s2 this p0) fun v5 =>
    if v5 = 0 then
    (kd s2 this 7 <|
    bd (sX2_no s2 this 1) fun s8 v9 =>
    some (s8, v9))
    else
    (kd s2 this 7 <|
    bp (sX2_asNow s2 this) fun s12 =>
    b2 (sX2_longest_L29 this p0 FU s12 0 (-1) 0) fun (s36 : St) (v37 : Int32) =>
    some (s36, v37))
def sX1_moor_L24 (this : Nat) (i1 : Int32) (i2 : Int32) : Nat → St → Int32 → Option ((St × Int32) ⊕ (St))
  | 0, _, _ => none
  | n + 1, s11, v12 =>
    kd s11 this 5 <|
    bp (sX1_places s11 this) fun v15 =>
    if v15 ≤ v12 then
    (some (.inr s11))
    else
    (gR s11 1002 (some this) fun v17 =>
    kd s11 this 5 <|
    bd (sX1_brawls s11 this v17 i1 v12 i2) fun s19 v20 =>
    bp (sX1_isWon s19 v20) fun v22 =>
    if v22 = 0 then
    (sX1_moor_L24 this i1 i2 n s19 (v12 + 1))
    else
    (kd s19 this 5 <|
    bd (sX1_well s19 this ((10 * i2) + v12)) fun s25 v26 =>
    some (.inl (s25, v26))))
def sX1_moor_L16 (this : Nat) (i1 : Int32) : Nat → St → Int32 → Option ((St × Int32) ⊕ (St))
  | 0, _, _ => none
  | n + 1, s8, v9 =>
    if 59 < v9 then
    (some (.inr s8))
    else
    (lcI (sX1_moor_L24 this i1 v9 FU s8 0) fun (s28 : St) =>
    sX1_moor_L16 this i1 n s28 (v9 + 1))
def sX1_moor (s0 : St) (this : Nat) (p0 : Int32) : Option (St × Int32) :=
    kd s0 this 5 <|
    bp (sX1_isQuarrel s0 this p0) fun v2 =>
    if v2 = 0 then
    (kd s0 this 5 <|
    bd (sX1_refused s0 this 1) fun s5 v6 =>
    some (s5, v6))
    else
    (lc (sX1_moor_L16 this p0 FU s0 0) fun (s32 : St) =>
    kd s32 this 5 <|
    bd (sX1_well s32 this (-2)) fun s34 v35 =>
    some (s34, v35))
def sX2_moor_L32 (this : Nat) (i1 : Int32) (i2 : Int32) : Nat → St → Int32 → Option ((St × Int32) ⊕ (St))
  | 0, _, _ => none
  | n + 1, s17, v18 =>
    gR s17 1011 (some this) fun v20 =>
    lI s17 1 v20 1 fun v21 =>
    if v21 ≤ v18 then
    (some (.inr s17))
    else
    (kd s17 this 7 <|
    bp (sX2_run s17 this i1 v18 i2 0) fun s23 =>
    gI s23 34 (some this) fun v25 =>
    if v25 ≤ 0 then
    (sX2_moor_L32 this i1 i2 n s23 (v18 + 1))
    else
    (some (.inl (s23, ((10 * i2) + v18)))))
def sX2_moor_L24 (this : Nat) (i1 : Int32) : Nat → St → Int32 → Option ((St × Int32) ⊕ (St))
  | 0, _, _ => none
  | n + 1, s14, v15 =>
    if 59 < v15 then
    (some (.inr s14))
    else
    (lcI (sX2_moor_L32 this i1 v15 FU s14 0) fun (s26 : St) =>
    sX2_moor_L24 this i1 n s26 (v15 + 1))
def sX2_moor (s0 : St) (this : Nat) (p0 : Int32) : Option (St × Int32) :=
    kd s0 this 7 <|
    bp (sX2_good s0 this) fun s2 =>
    kd s2 this 7 <|
    bp (sX2_isQuarrel s2 this p0) fun v5 =>
    if v5 = 0 then
    (kd s2 this 7 <|
    bd (sX2_no s2 this 1) fun s8 v9 =>
    some (s8, v9))
    else
    (kd s2 this 7 <|
    bp (sX2_asNow s2 this) fun s12 =>
    lc (sX2_moor_L24 this p0 FU s12 0) fun (s30 : St) =>
    some (s30, (-2)))
def sX1_tries (s0 : St) (this : Nat) : Option (St × Option Nat) :=
    gR s0 1003 (some this) fun v1 =>
    gR s0 1002 (some this) fun v2 =>
    iv s0 21 v1 fun w3 =>
    bp (sX14_takes s0 w3 v2) fun s6 =>
    gR s6 1003 (some this) fun v8 =>
    some (s6, v8)
def sX1_bricks_L19 (this : Nat) (i1 : Int32) : Nat → St → Int32 → Int32 → Option (St × Int32)
  | 0, _, _, _ => none
  | n + 1, s8, v9, v10 =>
    kd s8 this 5 <|
    bp (sX1_sights s8 this) fun v14 =>
    if ((1 : Int32) <<< (v14 &&& 31)) ≤ v10 then
    (some (s8, v9))
    else
    (gR s8 1002 (some this) fun v16 =>
    gI s8 77 v16 fun v17 =>
    b2 (
    if (v10 &&& v17) = 0 then
    (if v9 = (-2) then
    (kd s8 this 5 <|
    bd (sX1_tries s8 this) fun s21 v22 =>
    gI s21 77 v22 fun v24 =>
    pI s21 77 v22 (v24 ||| v10) fun s25 =>
    gR s25 1003 (some this) fun v26 =>
    kd s25 this 5 <|
    bd (sX1_brawlsOn s25 this v26 i1) fun s28 v29 =>
    bp (sX1_isWon s28 v29) fun v31 =>
    if v31 = 0 then
    (some (s28, v9))
    else
    (some (s28, v10)))
    else
    (bp (sX1_bits s8 v10) fun v33 =>
    bp (sX1_bits s8 v9) fun v35 =>
    if v33 < v35 then
    (kd s8 this 5 <|
    bd (sX1_tries s8 this) fun s38 v39 =>
    gI s38 77 v39 fun v41 =>
    pI s38 77 v39 (v41 ||| v10) fun s42 =>
    gR s42 1003 (some this) fun v43 =>
    kd s42 this 5 <|
    bd (sX1_brawlsOn s42 this v43 i1) fun s45 v46 =>
    bp (sX1_isWon s45 v46) fun v48 =>
    if v48 = 0 then
    (some (s45, v9))
    else
    (some (s45, v10)))
    else
    (some (s8, v9))))
    else
    (some (s8, v9))) fun (s18 : St) (v19 : Int32) =>
    sX1_bricks_L19 this i1 n s18 v19 (v10 + 1))
def sX1_bricks (s0 : St) (this : Nat) (p0 : Int32) : Option (St × Int32) :=
    kd s0 this 5 <|
    bp (sX1_isQuarrel s0 this p0) fun v2 =>
    if v2 = 0 then
    (kd s0 this 5 <|
    bd (sX1_refused s0 this 1) fun s5 v6 =>
    some (s5, v6))
    else
    (b2 (sX1_bricks_L19 this p0 FU s0 (-2) 0) fun (s52 : St) (v53 : Int32) =>
    kd s52 this 5 <|
    bd (sX1_well s52 this v53) fun s55 v56 =>
    some (s55, v56))
def sX2_bricks_L27 (this : Nat) (i1 : Int32) : Nat → St → Int32 → Int32 → Option (St × Int32)
  | 0, _, _, _ => none
  | n + 1, s14, v15, v16 =>
    gR s14 1011 (some this) fun v19 =>
    lI s14 1 v19 2 fun v20 =>
    if ((1 : Int32) <<< (v20 &&& 31)) ≤ v16 then
    (some (s14, v15))
    else
    (gR s14 1013 (some this) fun v21 =>
    lI s14 1 v21 6 fun v22 =>
    b2 (
    if (v16 &&& v22) = 0 then
    (if v15 < 0 then
    (gR s14 1016 (some this) fun v25 =>
    gR s14 1013 (some this) fun v26 =>
    lI s14 1 v26 6 fun v27 =>
    tI s14 v25 6 (v27 ||| v16) fun s28 =>
    kd s28 this 7 <|
    bp (sX2_runTold s28 this i1) fun s30 =>
    gI s30 34 (some this) fun v32 =>
    if v32 ≤ 0 then
    (some (s30, v15))
    else
    (some (s30, v16)))
    else
    (bp (sX2_ones s14 v16) fun v33 =>
    bp (sX2_ones s14 v15) fun v35 =>
    if v33 < v35 then
    (gR s14 1016 (some this) fun v37 =>
    gR s14 1013 (some this) fun v38 =>
    lI s14 1 v38 6 fun v39 =>
    tI s14 v37 6 (v39 ||| v16) fun s40 =>
    kd s40 this 7 <|
    bp (sX2_runTold s40 this i1) fun s42 =>
    gI s42 34 (some this) fun v44 =>
    if v44 ≤ 0 then
    (some (s42, v15))
    else
    (some (s42, v16)))
    else
    (some (s14, v15))))
    else
    (some (s14, v15))) fun (s23 : St) (v24 : Int32) =>
    sX2_bricks_L27 this i1 n s23 v24 (v16 + 1))
def sX2_bricks (s0 : St) (this : Nat) (p0 : Int32) : Option (St × Int32) :=
    kd s0 this 7 <|
    bp (sX2_good s0 this) fun s2 =>
    kd s2 this 7 <|
    bp (sX2_isQuarrel s2 this p0) fun v5 =>
    if v5 = 0 then
    (kd s2 this 7 <|
    bd (sX2_no s2 this 1) fun s8 v9 =>
    some (s8, v9))
    else
    (kd s2 this 7 <|
    bp (sX2_asNow s2 this) fun s12 =>
    b2 (sX2_bricks_L27 this p0 FU s12 (-2) 0) fun (s47 : St) (v48 : Int32) =>
    some (s47, v48))
def sX1_free_L4 (s1 : St) (this : Nat) (i1 : Int32) : Nat → Int32 → Int32 → Option (Int32)
  | 0, _, _ => none
  | n + 1, v2, v3 =>
    kd s1 this 5 <|
    bp (sX1_people s1 this) fun v6 =>
    if v6 ≤ v3 then
    (some v2)
    else
    (gR s1 1001 (some this) fun v8 =>
    iv s1 10 v8 fun w9 =>
    bp (sX5_person s1 w9 v3) fun v12 =>
    gI s1 69 v12 fun v14 =>
    bp (
    if v14 = (-2) then
    (some 0)
    else
    (gR s1 1002 (some this) fun v16 =>
    gR s1 1036 v16 fun v17 =>
    lI s1 2 v17 v3 fun v18 =>
    if v18 = (-2) then
    (kd s1 this 5 <|
    bp (sX1_quarrelsOf s1 this v3) fun v20 =>
    bp (sX1_has s1 v20 i1) fun v22 =>
    if v22 = 0 then
    (some ((1 : Int32) <<< (v3 &&& 31)))
    else
    (some 0))
    else
    (some 0))) fun (v15 : Int32) =>
    sX1_free_L4 s1 this i1 n (v2 ||| v15) (v3 + 1))
def sX1_free (s0 : St) (this : Nat) (p0 : Int32) : Option Int32 :=
    bp (sX1_free_L4 s0 this p0 FU 0 0) fun (v26 : Int32) =>
    some v26
def sX1_priceOf_L4 (s1 : St) (this : Nat) (i1 : Int32) : Nat → Int32 → Int32 → Option (Int32)
  | 0, _, _ => none
  | n + 1, v2, v3 =>
    kd s1 this 5 <|
    bp (sX1_people s1 this) fun v6 =>
    if v6 ≤ v3 then
    (some v2)
    else
    (bp (sX1_has s1 i1 v3) fun v8 =>
    bp (
    if v8 = 0 then
    (some 0)
    else
    (gR s1 1001 (some this) fun v11 =>
    iv s1 10 v11 fun w12 =>
    bp (sX5_person s1 w12 v3) fun v15 =>
    gI s1 69 v15 fun v17 =>
    some v17)) fun (v10 : Int32) =>
    sX1_priceOf_L4 s1 this i1 n (v2 + v10) (v3 + 1))
def sX1_priceOf (s0 : St) (this : Nat) (p0 : Int32) : Option Int32 :=
    bp (sX1_priceOf_L4 s0 this p0 FU 0 0) fun (v20 : Int32) =>
    some v20
def sX1_stopsBy_L58 (this : Nat) (i1 : Int32) (i4 : Int32) : Nat → St → Int32 → Option (St)
  | 0, _, _ => none
  | n + 1, s15, v16 =>
    kd s15 this 5 <|
    bp (sX1_people s15 this) fun v19 =>
    if v19 ≤ v16 then
    (some s15)
    else
    (bp (sX1_has s15 i4 v16) fun v21 =>
    bp (
    if v21 = 0 then
    (some s15)
    else
    (gR s15 1003 (some this) fun v24 =>
    gR s15 1036 v24 fun v25 =>
    gR s15 1001 (some this) fun v26 =>
    iv s15 10 v26 fun w27 =>
    bp (sX5_quarrel s15 w27 i1) fun v30 =>
    gI s15 73 v30 fun v32 =>
    tB s15 v25 v16 ((Int32.toInt8 v32).toInt32) fun s33 =>
    some s33)) fun (s23 : St) =>
    sX1_stopsBy_L58 this i1 i4 n s23 (v16 + 1))
def sX1_stopsBy_L12 (this : Nat) (i1 : Int32) (i2 : Int32) : Nat → St → Int32 → Int32 → Option (St × Int32)
  | 0, _, _, _ => none
  | n + 1, s4, v5, v6 =>
    if i2 < v6 then
    (some (s4, v5))
    else
    (b2 (
    if (v6 &&& (i2 ^^^ (-1))) = 0 then
    (if v5 = (-2) then
    (kd s4 this 5 <|
    bd (sX1_tries s4 this) fun s12 v13 =>
    bp (sX1_stopsBy_L58 this i1 v6 FU s12 0) fun (s36 : St) =>
    gR s36 1003 (some this) fun v37 =>
    kd s36 this 5 <|
    bd (sX1_brawlsOn s36 this v37 i1) fun s39 v40 =>
    if v40 = 0 then
    (some (s39, v6))
    else
    (some (s39, v5)))
    else
    (kd s4 this 5 <|
    bp (sX1_priceOf s4 this v6) fun v45 =>
    kd s4 this 5 <|
    bp (sX1_priceOf s4 this v5) fun v48 =>
    if v45 < v48 then
    (kd s4 this 5 <|
    bd (sX1_tries s4 this) fun s51 v52 =>
    bp (sX1_stopsBy_L58 this i1 v6 FU s51 0) fun (s54 : St) =>
    gR s54 1003 (some this) fun v55 =>
    kd s54 this 5 <|
    bd (sX1_brawlsOn s54 this v55 i1) fun s57 v58 =>
    if v58 = 0 then
    (some (s57, v6))
    else
    (some (s57, v5)))
    else
    (some (s4, v5))))
    else
    (some (s4, v5))) fun (s9 : St) (v10 : Int32) =>
    sX1_stopsBy_L12 this i1 i2 n s9 v10 (v6 + 1))
def sX1_stopsBy (s0 : St) (this : Nat) (p0 : Int32) : Option (St × Int32) :=
    kd s0 this 5 <|
    bp (sX1_free s0 this p0) fun v2 =>
    b2 (sX1_stopsBy_L12 this p0 v2 FU s0 (-2) 0) fun (s64 : St) (v65 : Int32) =>
    some (s64, v65)
def sX1_stoppers (s0 : St) (this : Nat) (p0 : Int32) : Option (St × Int32) :=
    kd s0 this 5 <|
    bp (sX1_isQuarrel s0 this p0) fun v2 =>
    if v2 = 0 then
    (kd s0 this 5 <|
    bd (sX1_refused s0 this 1) fun s5 v6 =>
    some (s5, v6))
    else
    (kd s0 this 5 <|
    bd (sX1_stopsBy s0 this p0) fun s9 v10 =>
    kd s9 this 5 <|
    bd (sX1_well s9 this v10) fun s13 v14 =>
    some (s13, v14))
def sX2_canHire (s0 : St) (this : Nat) (p0 : Int32) : Option Int32 :=
    gR s0 1011 (some this) fun v1 =>
    lI s0 1 v1 ((26 + (4 * p0)) + 3) fun v2 =>
    if v2 ≤ 0 then
    (some 0)
    else
    (some 1)
def sX2_priceOf_L4 (s1 : St) (this : Nat) (i1 : Int32) : Nat → Int32 → Int32 → Option (Int32)
  | 0, _, _ => none
  | n + 1, v2, v3 =>
    gR s1 1011 (some this) fun v5 =>
    lI s1 1 v5 3 fun v6 =>
    if v6 ≤ v3 then
    (some v2)
    else
    (bp (sX2_hasBit s1 i1 v3) fun v7 =>
    bp (
    if v7 = 0 then
    (some 0)
    else
    (gR s1 1011 (some this) fun v10 =>
    lI s1 1 v10 ((26 + (4 * v3)) + 3) fun v11 =>
    some (v11 - 1))) fun (v9 : Int32) =>
    sX2_priceOf_L4 s1 this i1 n (v2 + v9) (v3 + 1))
def sX2_priceOf (s0 : St) (this : Nat) (p0 : Int32) : Option Int32 :=
    bp (sX2_priceOf_L4 s0 this p0 FU 0 0) fun (v14 : Int32) =>
    some v14
def sX2_stoppersOf_L12 (s1 : St) (this : Nat) (i2 : Int32) : Nat → Int32 → Int32 → Option (Int32)
  | 0, _, _ => none
  | n + 1, v2, v3 =>
    gR s1 1011 (some this) fun v5 =>
    lI s1 1 v5 3 fun v6 =>
    if v6 ≤ v3 then
    (some v2)
    else
    (kd s1 this 7 <|
    bp (sX2_canHire s1 this v3) fun v8 =>
    bp (
    if v8 = 0 then
    (some 0)
    else
    (gR s1 1013 (some this) fun v11 =>
    lI s1 1 v11 v3 fun v12 =>
    if v12 = 0 then
    (gR s1 1011 (some this) fun v13 =>
    lI s1 1 v13 i2 fun v14 =>
    if v3 = v14 then
    (some 0)
    else
    (gR s1 1011 (some this) fun v15 =>
    lI s1 1 v15 (i2 + 1) fun v16 =>
    if v3 = v16 then
    (some 0)
    else
    (some ((1 : Int32) <<< (v3 &&& 31)))))
    else
    (some 0))) fun (v10 : Int32) =>
    sX2_stoppersOf_L12 s1 this i2 n (v2 ||| v10) (v3 + 1))
def sX2_stoppersOf_L142 (this : Nat) (i2 : Int32) (i5 : Int32) : Nat → St → Int32 → Option (St)
  | 0, _, _ => none
  | n + 1, s32, v33 =>
    gR s32 1011 (some this) fun v35 =>
    lI s32 1 v35 3 fun v36 =>
    if v36 ≤ v33 then
    (some s32)
    else
    (bp (sX2_hasBit s32 i5 v33) fun v37 =>
    bp (
    if v37 = 0 then
    (some s32)
    else
    (gR s32 1016 (some this) fun v40 =>
    gR s32 1011 (some this) fun v41 =>
    lI s32 1 v41 (i2 + 2) fun v42 =>
    tI s32 v40 v33 (v42 + 1) fun s43 =>
    some s43)) fun (s39 : St) =>
    sX2_stoppersOf_L142 this i2 i5 n s39 (v33 + 1))
def sX2_stoppersOf_L90 (this : Nat) (i1 : Int32) (i2 : Int32) (i3 : Int32) : Nat → St → Int32 → Int32 → Option (St × Int32)
  | 0, _, _, _ => none
  | n + 1, s20, v21, v22 =>
    gR s20 1011 (some this) fun v25 =>
    lI s20 1 v25 3 fun v26 =>
    if ((1 : Int32) <<< (v26 &&& 31)) ≤ v22 then
    (some (s20, v21))
    else
    (b2 (
    if (v22 &&& (i3 ^^^ (-1))) = 0 then
    (if v21 < 0 then
    (kd s20 this 7 <|
    bp (sX2_asNow s20 this) fun s30 =>
    bp (sX2_stoppersOf_L142 this i2 v22 FU s30 0) fun (s46 : St) =>
    kd s46 this 7 <|
    bp (sX2_runTold s46 this i1) fun s48 =>
    gI s48 34 (some this) fun v50 =>
    if v50 = 0 then
    (some (s48, v22))
    else
    (some (s48, v21)))
    else
    (kd s20 this 7 <|
    bp (sX2_priceOf s20 this v22) fun v54 =>
    kd s20 this 7 <|
    bp (sX2_priceOf s20 this v21) fun v57 =>
    if v54 < v57 then
    (kd s20 this 7 <|
    bp (sX2_asNow s20 this) fun s60 =>
    bp (sX2_stoppersOf_L142 this i2 v22 FU s60 0) fun (s62 : St) =>
    kd s62 this 7 <|
    bp (sX2_runTold s62 this i1) fun s64 =>
    gI s64 34 (some this) fun v66 =>
    if v66 = 0 then
    (some (s64, v22))
    else
    (some (s64, v21)))
    else
    (some (s20, v21))))
    else
    (some (s20, v21))) fun (s27 : St) (v28 : Int32) =>
    sX2_stoppersOf_L90 this i1 i2 i3 n s27 v28 (v22 + 1))
def sX2_stoppersOf (s0 : St) (this : Nat) (p0 : Int32) : Option (St × Int32) :=
    bp (sX2_stoppersOf_L12 s0 this (80 + (5 * p0)) FU 0 0) fun (v19 : Int32) =>
    b2 (sX2_stoppersOf_L90 this p0 (80 + (5 * p0)) v19 FU s0 (-2) 0) fun (s71 : St) (v72 : Int32) =>
    some (s71, v72)
def sX2_stoppers (s0 : St) (this : Nat) (p0 : Int32) : Option (St × Int32) :=
    kd s0 this 7 <|
    bp (sX2_good s0 this) fun s2 =>
    kd s2 this 7 <|
    bp (sX2_isQuarrel s2 this p0) fun v5 =>
    if v5 = 0 then
    (kd s2 this 7 <|
    bd (sX2_no s2 this 1) fun s8 v9 =>
    some (s8, v9))
    else
    (kd s2 this 7 <|
    bd (sX2_stoppersOf s2 this p0) fun s12 v13 =>
    some (s12, v13))
def sX1_price (s0 : St) (this : Nat) (p0 : Int32) : Option (St × Int32) :=
    kd s0 this 5 <|
    bp (sX1_isQuarrel s0 this p0) fun v2 =>
    if v2 = 0 then
    (kd s0 this 5 <|
    bd (sX1_refused s0 this 1) fun s5 v6 =>
    some (s5, v6))
    else
    (kd s0 this 5 <|
    bd (sX1_stopsBy s0 this p0) fun s9 v10 =>
    if v10 = (-2) then
    (kd s9 this 5 <|
    bd (sX1_well s9 this (-2)) fun s13 v14 =>
    some (s13, v14))
    else
    (kd s9 this 5 <|
    bp (sX1_priceOf s9 this v10) fun v17 =>
    kd s9 this 5 <|
    bd (sX1_well s9 this v17) fun s20 v21 =>
    some (s20, v21)))
def sX2_price (s0 : St) (this : Nat) (p0 : Int32) : Option (St × Int32) :=
    kd s0 this 7 <|
    bp (sX2_good s0 this) fun s2 =>
    kd s2 this 7 <|
    bp (sX2_isQuarrel s2 this p0) fun v5 =>
    if v5 = 0 then
    (kd s2 this 7 <|
    bd (sX2_no s2 this 1) fun s8 v9 =>
    some (s8, v9))
    else
    (kd s2 this 7 <|
    bd (sX2_stoppersOf s2 this p0) fun s12 v13 =>
    if 0 ≤ v13 then
    (kd s12 this 7 <|
    bp (sX2_priceOf s12 this v13) fun v16 =>
    some (s12, v16))
    else
    (some (s12, (-2))))
def sX1_stoppedWith (s0 : St) (this : Nat) (p0 : Int32) (p1 : Int32) : Option (St × Int32) :=
    kd s0 this 5 <|
    bd (sX1_tries s0 this) fun s2 v3 =>
    gR s2 1036 v3 fun v5 =>
    tB s2 v5 p0 ((Int32.toInt8 p1).toInt32) fun s6 =>
    gR s6 1003 (some this) fun v7 =>
    kd s6 this 5 <|
    bd (sX1_stoppedOn s6 this v7) fun s9 v10 =>
    some (s9, v10)
def sX1_stoppedIf (s0 : St) (this : Nat) (p0 : Int32) (p1 : Int32) : Option (St × Int32) :=
    kd s0 this 5 <|
    bp (sX1_isPerson s0 this p0) fun v2 =>
    if v2 = 0 then
    (kd s0 this 5 <|
    bd (sX1_refused s0 this 1) fun s5 v6 =>
    some (s5, v6))
    else
    (kd s0 this 5 <|
    bp (sX1_isPlace s0 this p1) fun v9 =>
    if v9 = 0 then
    (kd s0 this 5 <|
    bd (sX1_refused s0 this 1) fun s12 v13 =>
    some (s12, v13))
    else
    (gR s0 1001 (some this) fun v15 =>
    iv s0 10 v15 fun w16 =>
    bp (sX5_person s0 w16 p0) fun v19 =>
    gI s0 69 v19 fun v21 =>
    if v21 = (-2) then
    (kd s0 this 5 <|
    bd (sX1_refused s0 this 5) fun s23 v24 =>
    some (s23, v24))
    else
    (kd s0 this 5 <|
    bd (sX1_stoppedWith s0 this p0 p1) fun s27 v28 =>
    kd s27 this 5 <|
    bd (sX1_well s27 this v28) fun s31 v32 =>
    some (s31, v32))))
def sX2_stoppedWith (s0 : St) (this : Nat) (p0 : Int32) (p1 : Int32) : Option (St × Int32) :=
    kd s0 this 7 <|
    bp (sX2_asNow s0 this) fun s2 =>
    gR s2 1016 (some this) fun v4 =>
    tI s2 v4 p0 (p1 + 1) fun s5 =>
    kd s5 this 7 <|
    bd (sX2_stopped s5 this) fun s7 v8 =>
    some (s7, v8)
def sX2_stoppedIf (s0 : St) (this : Nat) (p0 : Int32) (p1 : Int32) : Option (St × Int32) :=
    kd s0 this 7 <|
    bp (sX2_good s0 this) fun s2 =>
    kd s2 this 7 <|
    bp (sX2_isPerson s2 this p0) fun v5 =>
    if v5 = 0 then
    (kd s2 this 7 <|
    bd (sX2_no s2 this 1) fun s8 v9 =>
    some (s8, v9))
    else
    (kd s2 this 7 <|
    bp (sX2_isPlace s2 this p1) fun v12 =>
    if v12 = 0 then
    (kd s2 this 7 <|
    bd (sX2_no s2 this 1) fun s15 v16 =>
    some (s15, v16))
    else
    (kd s2 this 7 <|
    bp (sX2_canHire s2 this p0) fun v19 =>
    if v19 = 0 then
    (kd s2 this 7 <|
    bd (sX2_no s2 this 5) fun s22 v23 =>
    some (s22, v23))
    else
    (kd s2 this 7 <|
    bd (sX2_stoppedWith s2 this p0 p1) fun s26 v27 =>
    some (s26, v27))))
def sX1_bestHire_L41 (this : Nat) (i3 : Int32) : Nat → St → Int32 → Int32 → Int32 → Option (St × Int32 × Int32)
  | 0, _, _, _, _ => none
  | n + 1, s22, v23, v24, v25 =>
    kd s22 this 5 <|
    bp (sX1_places s22 this) fun v30 =>
    if v30 ≤ v25 then
    (some (s22, v23, v24))
    else
    (gR s22 1001 (some this) fun v32 =>
    iv s22 10 v32 fun w33 =>
    bp (sX5_person s22 w33 i3) fun v36 =>
    gI s22 69 v36 fun v38 =>
    if v38 = (-2) then
    (some (s22, v23, v24))
    else
    (kd s22 this 5 <|
    bd (sX1_stoppedWith s22 this i3 v25) fun s40 v41 =>
    bp (sX1_bits s40 v41) fun v43 =>
    b2 (
    if v23 < v43 then
    (some (v43, ((10 * i3) + v25)))
    else
    (some (v23, v24))) fun (v45 : Int32) (v46 : Int32) =>
    sX1_bestHire_L41 this i3 n s40 v45 v46 (v25 + 1)))
def sX1_bestHire_L30 (this : Nat) : Nat → St → Int32 → Int32 → Int32 → Option (St × Int32)
  | 0, _, _, _, _ => none
  | n + 1, s13, v14, v15, v16 =>
    kd s13 this 5 <|
    bp (sX1_people s13 this) fun v20 =>
    if v20 ≤ v16 then
    (some (s13, v15))
    else
    (b3 (sX1_bestHire_L41 this v16 FU s13 v14 v15 0) fun (s49 : St) (v50 : Int32) (v51 : Int32) =>
    sX1_bestHire_L30 this n s49 v50 v51 (v16 + 1))
def sX1_bestHire (s0 : St) (this : Nat) : Option (St × Int32) :=
    gR s0 1001 (some this) fun v1 =>
    if v1 = none then
    (kd s0 this 5 <|
    bd (sX1_refused s0 this 1) fun s3 v4 =>
    some (s3, v4))
    else
    (gR s0 1002 (some this) fun v6 =>
    kd s0 this 5 <|
    bd (sX1_stoppedOn s0 this v6) fun s8 v9 =>
    bp (sX1_bits s8 v9) fun v11 =>
    b2 (sX1_bestHire_L30 this FU s8 v11 (-2) 0) fun (s54 : St) (v55 : Int32) =>
    kd s54 this 5 <|
    bd (sX1_well s54 this v55) fun s57 v58 =>
    some (s57, v58))
def sX2_bestHire_L47 (this : Nat) (i3 : Int32) : Nat → St → Int32 → Int32 → Int32 → Option (St × Int32 × Int32)
  | 0, _, _, _, _ => none
  | n + 1, s26, v27, v28, v29 =>
    gR s26 1011 (some this) fun v33 =>
    lI s26 1 v33 1 fun v34 =>
    if v34 ≤ v29 then
    (some (s26, v27, v28))
    else
    (kd s26 this 7 <|
    bp (sX2_canHire s26 this i3) fun v36 =>
    if v36 = 0 then
    (some (s26, v27, v28))
    else
    (kd s26 this 7 <|
    bd (sX2_stoppedWith s26 this i3 v29) fun s39 v40 =>
    bp (sX2_ones s39 v40) fun v42 =>
    b2 (
    if v27 < v42 then
    (some (v42, ((10 * i3) + v29)))
    else
    (some (v27, v28))) fun (v44 : Int32) (v45 : Int32) =>
    sX2_bestHire_L47 this i3 n s39 v44 v45 (v29 + 1)))
def sX2_bestHire_L34 (this : Nat) : Nat → St → Int32 → Int32 → Int32 → Option (St × Int32)
  | 0, _, _, _, _ => none
  | n + 1, s18, v19, v20, v21 =>
    gR s18 1011 (some this) fun v24 =>
    lI s18 1 v24 3 fun v25 =>
    if v25 ≤ v21 then
    (some (s18, v20))
    else
    (b3 (sX2_bestHire_L47 this v21 FU s18 v19 v20 0) fun (s48 : St) (v49 : Int32) (v50 : Int32) =>
    sX2_bestHire_L34 this n s48 v49 v50 (v21 + 1))
def sX2_bestHire (s0 : St) (this : Nat) : Option (St × Int32) :=
    kd s0 this 7 <|
    bp (sX2_good s0 this) fun s2 =>
    gI s2 31 (some this) fun v4 =>
    if v4 = 0 then
    (kd s2 this 7 <|
    bd (sX2_no s2 this 1) fun s6 v7 =>
    some (s6, v7))
    else
    (kd s2 this 7 <|
    bp (sX2_asNow s2 this) fun s10 =>
    kd s10 this 7 <|
    bd (sX2_stopped s10 this) fun s13 v14 =>
    bp (sX2_ones s13 v14) fun v16 =>
    b2 (sX2_bestHire_L34 this FU s13 v16 (-2) 0) fun (s53 : St) (v54 : Int32) =>
    some (s53, v54))
def sX1_wrongEnd_L22 (this : Nat) : Nat → St → Int32 → Int32 → Option (St × Int32)
  | 0, _, _, _ => none
  | n + 1, s11, v12, v13 =>
    if v13 < 0 then
    (some (s11, v12))
    else
    (gR s11 1001 (some this) fun v16 =>
    iv s11 10 v16 fun w17 =>
    bp (sX5_quarrel s11 w17 v13) fun v20 =>
    gI s11 76 v20 fun v22 =>
    b2 (
    if v22 = (-1) then
    (some (s11, v12))
    else
    (gR s11 1003 (some this) fun v25 =>
    kd s11 this 5 <|
    bd (sX1_brawlsOn s11 this v25 v13) fun s27 v28 =>
    gI s27 7 (some this) fun v30 =>
    gR s27 1001 (some this) fun v31 =>
    iv s27 10 v31 fun w32 =>
    bp (sX5_quarrel s27 w32 v13) fun v35 =>
    gI s27 76 v35 fun v37 =>
    if v30 = v37 then
    (some (s27, v12))
    else
    (some (s27, v13)))) fun (s23 : St) (v24 : Int32) =>
    sX1_wrongEnd_L22 this n s23 v24 (v13 + (-1)))
def sX1_wrongEnd (s0 : St) (this : Nat) (p0 : Int32) : Option (St × Int32) :=
    gR s0 1003 (some this) fun v1 =>
    iv s0 21 v1 fun w2 =>
    bp (sX14_begins s0 w2) fun s5 =>
    pI s5 5 (some this) p0 fun s7 =>
    kd s7 this 5 <|
    bp (sX1_quarrels s7 this) fun v9 =>
    b2 (sX1_wrongEnd_L22 this FU s7 (-2) (v9 - 1)) fun (s40 : St) (v41 : Int32) =>
    pI s40 5 (some this) 0 fun s42 =>
    some (s42, v41)
def sX1_fitting_L30 (this : Nat) : Nat → St → Int32 → Option (St)
  | 0, _, _ => none
  | n + 1, s6, v7 =>
    if 4 ≤ v7 then
    (some s6)
    else
    (gR s6 1006 (some this) fun v9 =>
    tI s6 v9 v7 0 fun s10 =>
    sX1_fitting_L30 this n s10 (v7 + 1))
def sX1_fitting_L119 (this : Nat) (i3 : Int32) : Nat → St → Int32 → Option (St)
  | 0, _, _ => none
  | n + 1, s33, v34 =>
    gR s33 1001 (some this) fun v36 =>
    gI s33 52 v36 fun v37 =>
    if v37 ≤ v34 then
    (some s33)
    else
    (gR s33 1006 (some this) fun v38 =>
    lI s33 1 v38 v34 fun v39 =>
    bp (sX1_has s33 i3 v34) fun v40 =>
    bp (
    if v40 = 0 then
    (some 0)
    else
    (some 1)) fun (v42 : Int32) =>
    tI s33 v38 v34 (v39 + v42) fun s43 =>
    sX1_fitting_L119 this i3 n s43 (v34 + 1))
def sX1_fitting_L50 (this : Nat) (i1 : Int32) : Nat → St → Int32 → Int32 → Option (St × Int32)
  | 0, _, _, _ => none
  | n + 1, s12, v13, v14 =>
    gR s12 1001 (some this) fun v17 =>
    gI s12 52 v17 fun v18 =>
    if ((1 : Int32) <<< (v18 &&& 31)) ≤ v14 then
    (some (s12, v13))
    else
    (kd s12 this 5 <|
    bd (sX1_wrongEnd s12 this v14) fun s20 v21 =>
    b2 (
    if v21 = (-2) then
    (gI s20 13 (some this) fun v25 =>
    bp (
    if v25 = i1 then
    (some v14)
    else
    (some v13)) fun (v26 : Int32) =>
    gI s20 13 (some this) fun v27 =>
    pI s20 13 (some this) (v27 + 1) fun s28 =>
    gI s28 14 (some this) fun v29 =>
    pI s28 14 (some this) (v29 ||| v14) fun s30 =>
    gI s30 15 (some this) fun v31 =>
    pI s30 15 (some this) (v31 &&& v14) fun s32 =>
    bp (sX1_fitting_L119 this v14 FU s32 0) fun (s46 : St) =>
    some (s46, v26))
    else
    (some (s20, v13))) fun (s23 : St) (v24 : Int32) =>
    sX1_fitting_L50 this i1 n s23 v24 (v14 + 1))
def sX1_fitting (s0 : St) (this : Nat) (p0 : Int32) : Option (St × Int32) :=
    pI s0 13 (some this) 0 fun s1 =>
    pI s1 14 (some this) 0 fun s2 =>
    gR s2 1001 (some this) fun v3 =>
    gI s2 52 v3 fun v4 =>
    pI s2 15 (some this) (((1 : Int32) <<< (v4 &&& 31)) - 1) fun s5 =>
    bp (sX1_fitting_L30 this FU s5 0) fun (s11 : St) =>
    b2 (sX1_fitting_L50 this p0 FU s11 (-2) 0) fun (s53 : St) (v54 : Int32) =>
    gI s53 13 (some this) fun v55 =>
    if v55 = 0 then
    (pI s53 15 (some this) 0 fun s56 =>
    some (s56, v54))
    else
    (some (s53, v54))
def sX1_fits (s0 : St) (this : Nat) : Option (St × Int32) :=
    gR s0 1001 (some this) fun v1 =>
    if v1 = none then
    (kd s0 this 5 <|
    bd (sX1_refused s0 this 1) fun s3 v4 =>
    some (s3, v4))
    else
    (kd s0 this 5 <|
    bd (sX1_fitting s0 this (-1)) fun s7 v8 =>
    gI s7 13 (some this) fun v10 =>
    kd s7 this 5 <|
    bd (sX1_well s7 this v10) fun s12 v13 =>
    some (s12, v13))
def sX2_wrongBy_L6 (this : Nat) : Nat → St → Int32 → Option (St)
  | 0, _, _ => none
  | n + 1, s4, v5 =>
    if 8 ≤ v5 then
    (some s4)
    else
    (gR s4 1016 (some this) fun v7 =>
    tI s4 v7 v5 0 fun s8 =>
    sX2_wrongBy_L6 this n s8 (v5 + 1))
def sX2_wrongBy_L27 (this : Nat) (i1 : Int32) : Nat → St → Int32 → Option (St)
  | 0, _, _ => none
  | n + 1, s10, v11 =>
    gR s10 1011 (some this) fun v13 =>
    lI s10 1 v13 7 fun v14 =>
    if v14 ≤ v11 then
    (some s10)
    else
    (bp (sX2_hasBit s10 i1 v11) fun v15 =>
    bp (
    if v15 = 0 then
    (some s10)
    else
    (gR s10 1017 (some this) fun v18 =>
    gR s10 1011 (some this) fun v19 =>
    lI s10 1 v19 (95 + (2 * v11)) fun v20 =>
    gR s10 1011 (some this) fun v21 =>
    lI s10 1 v21 ((95 + (2 * v11)) + 1) fun v22 =>
    tI s10 v18 v20 v22 fun s23 =>
    some s23)) fun (s17 : St) =>
    sX2_wrongBy_L27 this i1 n s17 (v11 + 1))
def sX2_wrongBy_L83 (this : Nat) : Nat → St → Int32 → Option ((St × Int32) ⊕ (St))
  | 0, _, _ => none
  | n + 1, s27, v28 =>
    gR s27 1011 (some this) fun v30 =>
    lI s27 1 v30 5 fun v31 =>
    if v31 ≤ v28 then
    (some (.inr s27))
    else
    (gR s27 1011 (some this) fun v32 =>
    lI s27 1 v32 (103 + v28) fun v33 =>
    if v33 = 0 then
    (sX2_wrongBy_L83 this n s27 (v28 + 1))
    else
    (kd s27 this 7 <|
    bp (sX2_runTold s27 this v28) fun s35 =>
    gI s35 35 (some this) fun v37 =>
    gR s35 1011 (some this) fun v38 =>
    lI s35 1 v38 (103 + v28) fun v39 =>
    if v37 = (v39 - 1) then
    (sX2_wrongBy_L83 this n s35 (v28 + 1))
    else
    (some (.inl (s35, v28)))))
def sX2_wrongBy (s0 : St) (this : Nat) (p0 : Int32) : Option (St × Int32) :=
    kd s0 this 7 <|
    bp (sX2_asNow s0 this) fun s2 =>
    bp (sX2_wrongBy_L6 this FU s2 0) fun (s9 : St) =>
    bp (sX2_wrongBy_L27 this p0 FU s9 0) fun (s26 : St) =>
    lc (sX2_wrongBy_L83 this FU s26 0) fun (s40 : St) =>
    some (s40, (-2))
def sX2_seekSets_L29 (this : Nat) : Nat → St → Int32 → Option (St)
  | 0, _, _ => none
  | n + 1, s6, v7 =>
    if 4 ≤ v7 then
    (some s6)
    else
    (gR s6 1019 (some this) fun v9 =>
    tI s6 v9 v7 0 fun s10 =>
    sX2_seekSets_L29 this n s10 (v7 + 1))
def sX2_seekSets_L118 (this : Nat) (i3 : Int32) : Nat → St → Int32 → Option (St)
  | 0, _, _ => none
  | n + 1, s33, v34 =>
    gR s33 1011 (some this) fun v36 =>
    lI s33 1 v36 7 fun v37 =>
    if v37 ≤ v34 then
    (some s33)
    else
    (gR s33 1019 (some this) fun v38 =>
    lI s33 1 v38 v34 fun v39 =>
    tI s33 v38 v34 (v39 + ((i3 >>> (v34 &&& 31)) &&& 1)) fun s40 =>
    sX2_seekSets_L118 this i3 n s40 (v34 + 1))
def sX2_seekSets_L49 (this : Nat) (i1 : Int32) : Nat → St → Int32 → Int32 → Option (St × Int32)
  | 0, _, _, _ => none
  | n + 1, s12, v13, v14 =>
    gR s12 1011 (some this) fun v17 =>
    lI s12 1 v17 7 fun v18 =>
    if ((1 : Int32) <<< (v18 &&& 31)) ≤ v14 then
    (some (s12, v13))
    else
    (kd s12 this 7 <|
    bd (sX2_wrongBy s12 this v14) fun s20 v21 =>
    b2 (
    if v21 = (-2) then
    (gI s20 41 (some this) fun v25 =>
    bp (
    if v25 = i1 then
    (some v14)
    else
    (some v13)) fun (v26 : Int32) =>
    gI s20 41 (some this) fun v27 =>
    pI s20 41 (some this) (v27 + 1) fun s28 =>
    gI s28 42 (some this) fun v29 =>
    pI s28 42 (some this) (v29 ||| v14) fun s30 =>
    gI s30 43 (some this) fun v31 =>
    pI s30 43 (some this) (v31 &&& v14) fun s32 =>
    bp (sX2_seekSets_L118 this v14 FU s32 0) fun (s41 : St) =>
    some (s41, v26))
    else
    (some (s20, v13))) fun (s23 : St) (v24 : Int32) =>
    sX2_seekSets_L49 this i1 n s23 v24 (v14 + 1))
def sX2_seekSets (s0 : St) (this : Nat) (p0 : Int32) : Option (St × Int32) :=
    pI s0 41 (some this) 0 fun s1 =>
    pI s1 42 (some this) 0 fun s2 =>
    gR s2 1011 (some this) fun v3 =>
    lI s2 1 v3 7 fun v4 =>
    pI s2 43 (some this) (((1 : Int32) <<< (v4 &&& 31)) - 1) fun s5 =>
    bp (sX2_seekSets_L29 this FU s5 0) fun (s11 : St) =>
    b2 (sX2_seekSets_L49 this p0 FU s11 (-1) 0) fun (s48 : St) (v49 : Int32) =>
    gI s48 41 (some this) fun v50 =>
    if v50 = 0 then
    (pI s48 43 (some this) 0 fun s51 =>
    some (s51, v49))
    else
    (some (s48, v49))
def sX2_fits (s0 : St) (this : Nat) : Option (St × Int32) :=
    kd s0 this 7 <|
    bp (sX2_good s0 this) fun s2 =>
    gI s2 31 (some this) fun v4 =>
    if v4 = 0 then
    (kd s2 this 7 <|
    bd (sX2_no s2 this 1) fun s6 v7 =>
    some (s6, v7))
    else
    (kd s2 this 7 <|
    bd (sX2_seekSets s2 this (-1)) fun s10 v11 =>
    gI s10 41 (some this) fun v13 =>
    some (s10, v13))
def sX1_fitAt (s0 : St) (this : Nat) (p0 : Int32) : Option (St × Int32) :=
    gR s0 1001 (some this) fun v1 =>
    if v1 = none then
    (kd s0 this 5 <|
    bd (sX1_refused s0 this 1) fun s3 v4 =>
    some (s3, v4))
    else
    (if 0 ≤ p0 then
    (kd s0 this 5 <|
    bd (sX1_fitting s0 this p0) fun s7 v8 =>
    if v8 = (-2) then
    (kd s7 this 5 <|
    bd (sX1_refused s7 this 1) fun s11 v12 =>
    some (s11, v12))
    else
    (kd s7 this 5 <|
    bd (sX1_well s7 this v8) fun s15 v16 =>
    some (s15, v16)))
    else
    (kd s0 this 5 <|
    bd (sX1_refused s0 this 1) fun s19 v20 =>
    some (s19, v20)))
def sX2_fitAt (s0 : St) (this : Nat) (p0 : Int32) : Option (St × Int32) :=
    kd s0 this 7 <|
    bp (sX2_good s0 this) fun s2 =>
    gI s2 31 (some this) fun v4 =>
    if v4 = 0 then
    (kd s2 this 7 <|
    bd (sX2_no s2 this 1) fun s6 v7 =>
    some (s6, v7))
    else
    (if 0 ≤ p0 then
    (kd s2 this 7 <|
    bd (sX2_seekSets s2 this p0) fun s10 v11 =>
    if 0 ≤ v11 then
    (some (s10, v11))
    else
    (kd s10 this 7 <|
    bd (sX2_no s10 this 1) fun s14 v15 =>
    some (s14, v15)))
    else
    (kd s2 this 7 <|
    bd (sX2_no s2 this 1) fun s18 v19 =>
    some (s18, v19)))
def sX1_could (s0 : St) (this : Nat) : Option (St × Int32) :=
    gR s0 1001 (some this) fun v1 =>
    if v1 = none then
    (kd s0 this 5 <|
    bd (sX1_refused s0 this 1) fun s3 v4 =>
    some (s3, v4))
    else
    (kd s0 this 5 <|
    bd (sX1_fitting s0 this (-1)) fun s7 v8 =>
    gI s7 14 (some this) fun v10 =>
    kd s7 this 5 <|
    bd (sX1_well s7 this v10) fun s12 v13 =>
    some (s12, v13))
def sX2_could (s0 : St) (this : Nat) : Option (St × Int32) :=
    kd s0 this 7 <|
    bp (sX2_good s0 this) fun s2 =>
    gI s2 31 (some this) fun v4 =>
    if v4 = 0 then
    (kd s2 this 7 <|
    bd (sX2_no s2 this 1) fun s6 v7 =>
    some (s6, v7))
    else
    (kd s2 this 7 <|
    bd (sX2_seekSets s2 this (-1)) fun s10 v11 =>
    gI s10 42 (some this) fun v13 =>
    some (s10, v13))
def sX1_surely (s0 : St) (this : Nat) : Option (St × Int32) :=
    gR s0 1001 (some this) fun v1 =>
    if v1 = none then
    (kd s0 this 5 <|
    bd (sX1_refused s0 this 1) fun s3 v4 =>
    some (s3, v4))
    else
    (kd s0 this 5 <|
    bd (sX1_fitting s0 this (-1)) fun s7 v8 =>
    gI s7 15 (some this) fun v10 =>
    kd s7 this 5 <|
    bd (sX1_well s7 this v10) fun s12 v13 =>
    some (s12, v13))
def sX2_surely (s0 : St) (this : Nat) : Option (St × Int32) :=
    kd s0 this 7 <|
    bp (sX2_good s0 this) fun s2 =>
    gI s2 31 (some this) fun v4 =>
    if v4 = 0 then
    (kd s2 this 7 <|
    bd (sX2_no s2 this 1) fun s6 v7 =>
    some (s6, v7))
    else
    (kd s2 this 7 <|
    bd (sX2_seekSets s2 this (-1)) fun s10 v11 =>
    gI s10 43 (some this) fun v13 =>
    some (s10, v13))
def sX1_asks_L17 (this : Nat) : Nat → St → Int32 → Int32 → Option (St × Int32)
  | 0, _, _, _ => none
  | n + 1, s6, v7, v8 =>
    gR s6 1001 (some this) fun v11 =>
    gI s6 52 v11 fun v12 =>
    if v12 ≤ v8 then
    (some (s6, v7))
    else
    (gI s6 13 (some this) fun v13 =>
    if v13 ≤ 0 then
    (some (s6, v7))
    else
    (gR s6 1006 (some this) fun v14 =>
    lI s6 1 v14 v8 fun v15 =>
    gI s6 13 (some this) fun v16 =>
    gR s6 1006 (some this) fun v17 =>
    lI s6 1 v17 v8 fun v18 =>
    b2 (
    if v7 = (-2) then
    (pI s6 16 (some this) (mxI v15 (v16 - v18)) fun s21 =>
    some (s21, v8))
    else
    (gI s6 16 (some this) fun v22 =>
    if (mxI v15 (v16 - v18)) < v22 then
    (pI s6 16 (some this) (mxI v15 (v16 - v18)) fun s23 =>
    some (s23, v8))
    else
    (some (s6, v7)))) fun (s19 : St) (v20 : Int32) =>
    sX1_asks_L17 this n s19 v20 (v8 + 1)))
def sX1_asks (s0 : St) (this : Nat) : Option (St × Int32) :=
    kd s0 this 5 <|
    bd (sX1_fitting s0 this (-1)) fun s2 v3 =>
    pI s2 16 (some this) (-2) fun s5 =>
    b2 (sX1_asks_L17 this FU s5 (-2) 0) fun (s26 : St) (v27 : Int32) =>
    some (s26, v27)
def sX1_ask (s0 : St) (this : Nat) : Option (St × Int32) :=
    gR s0 1001 (some this) fun v1 =>
    if v1 = none then
    (kd s0 this 5 <|
    bd (sX1_refused s0 this 1) fun s3 v4 =>
    some (s3, v4))
    else
    (kd s0 this 5 <|
    bd (sX1_asks s0 this) fun s7 v8 =>
    kd s7 this 5 <|
    bd (sX1_well s7 this v8) fun s11 v12 =>
    some (s11, v12))
def sX2_leavesOf (s0 : St) (this : Nat) (p0 : Int32) : Option Int32 :=
    gR s0 1019 (some this) fun v1 =>
    lI s0 1 v1 p0 fun v2 =>
    gI s0 41 (some this) fun v3 =>
    gR s0 1019 (some this) fun v4 =>
    lI s0 1 v4 p0 fun v5 =>
    if v2 ≤ (v3 - v5) then
    (gI s0 41 (some this) fun v6 =>
    gR s0 1019 (some this) fun v7 =>
    lI s0 1 v7 p0 fun v8 =>
    some (v6 - v8))
    else
    (gR s0 1019 (some this) fun v9 =>
    lI s0 1 v9 p0 fun v10 =>
    some v10)
def sX2_askOf_L11 (s5 : St) (this : Nat) : Nat → Int32 → Int32 → Option (Int32)
  | 0, _, _ => none
  | n + 1, v6, v7 =>
    gR s5 1011 (some this) fun v9 =>
    lI s5 1 v9 7 fun v10 =>
    if v10 ≤ v7 then
    (some v6)
    else
    (gI s5 41 (some this) fun v11 =>
    if v11 ≤ 0 then
    (some v6)
    else
    (bp (
    if v6 < 0 then
    (some v7)
    else
    (kd s5 this 7 <|
    bp (sX2_leavesOf s5 this v7) fun v14 =>
    kd s5 this 7 <|
    bp (sX2_leavesOf s5 this v6) fun v17 =>
    if v17 ≤ v14 then
    (some v6)
    else
    (some v7))) fun (v12 : Int32) =>
    sX2_askOf_L11 s5 this n v12 (v7 + 1)))
def sX2_askOf (s0 : St) (this : Nat) : Option (St × Int32) :=
    kd s0 this 7 <|
    bd (sX2_seekSets s0 this (-1)) fun s2 v3 =>
    bp (sX2_askOf_L11 s2 this FU (-2) 0) fun (v21 : Int32) =>
    some (s2, v21)
def sX2_ask (s0 : St) (this : Nat) : Option (St × Int32) :=
    kd s0 this 7 <|
    bp (sX2_good s0 this) fun s2 =>
    gI s2 31 (some this) fun v4 =>
    if v4 = 0 then
    (kd s2 this 7 <|
    bd (sX2_no s2 this 1) fun s6 v7 =>
    some (s6, v7))
    else
    (kd s2 this 7 <|
    bd (sX2_askOf s2 this) fun s10 v11 =>
    some (s10, v11))
def sX1_askLeaves (s0 : St) (this : Nat) : Option (St × Int32) :=
    gR s0 1001 (some this) fun v1 =>
    if v1 = none then
    (kd s0 this 5 <|
    bd (sX1_refused s0 this 1) fun s3 v4 =>
    some (s3, v4))
    else
    (kd s0 this 5 <|
    bd (sX1_asks s0 this) fun s7 v8 =>
    gI s7 16 (some this) fun v10 =>
    kd s7 this 5 <|
    bd (sX1_well s7 this v10) fun s12 v13 =>
    some (s12, v13))
def sX2_askLeaves (s0 : St) (this : Nat) : Option (St × Int32) :=
    kd s0 this 7 <|
    bp (sX2_good s0 this) fun s2 =>
    gI s2 31 (some this) fun v4 =>
    if v4 = 0 then
    (kd s2 this 7 <|
    bd (sX2_no s2 this 1) fun s6 v7 =>
    some (s6, v7))
    else
    (kd s2 this 7 <|
    bd (sX2_askOf s2 this) fun s10 v11 =>
    if 0 ≤ v11 then
    (kd s10 this 7 <|
    bp (sX2_leavesOf s10 this v11) fun v14 =>
    some (s10, v14))
    else
    (some (s10, (-2))))
def sX1_judge (s0 : St) (this : Nat) : Option (St × Int32) :=
    gR s0 1001 (some this) fun v1 =>
    if v1 = none then
    (kd s0 this 5 <|
    bd (sX1_refused s0 this 1) fun s3 v4 =>
    some (s3, v4))
    else
    (kd s0 this 5 <|
    bd (sX1_wrongEnd s0 this 0) fun s7 v8 =>
    kd s7 this 5 <|
    bd (sX1_well s7 this v8) fun s11 v12 =>
    some (s11, v12))
def sX2_judge (s0 : St) (this : Nat) : Option (St × Int32) :=
    kd s0 this 7 <|
    bp (sX2_good s0 this) fun s2 =>
    gI s2 31 (some this) fun v4 =>
    if v4 = 0 then
    (kd s2 this 7 <|
    bd (sX2_no s2 this 1) fun s6 v7 =>
    some (s6, v7))
    else
    (kd s2 this 7 <|
    bd (sX2_wrongBy s2 this 0) fun s10 v11 =>
    some (s10, v11))
def sX1_whyMinute (s0 : St) (this : Nat) (p0 : Int32) (p1 : Int32) : Option Int32 :=
    kd s0 this 5 <|
    bp (sX1_why s0 this p0 p1 0 59) fun v2 =>
    some v2
def sX1_common_L6 : Nat → Int64 → Int64 → Option (Int64)
  | 0, _, _ => none
  | n + 1, v2, v3 =>
    if (lg_cmp v3 0) = 0 then
    (some v2)
    else
    (dzL v3 <|
    sX1_common_L6 n v3 (v2 - v2 / v3 * v3))
def sX1_common (s0 : St) (p0 : Int64) (p1 : Int64) : Option Int64 :=
    bp (sX1_common_L6 FU p0 p1) fun (v5 : Int64) =>
    some v5
def sX1_fraction (s0 : St) (this : Nat) (p0 : Int64) (p1 : Int64) (p2 : Int32) : Option (St × Int64) :=
    kd s0 this 5 <|
    bd (sX1_well s0 this 0) fun s2 v3 =>
    bp (
    if p2 = 0 then
    (some p0)
    else
    (some p1)) fun (v5 : Int64) =>
    bp (sX1_common s2 p0 p1) fun v6 =>
    dzL v6 <|
    some (s2, (v5 / v6))
def sX1_swings_L86 (s20 : St) (this : Nat) (i1 : Int32) (i7 : Int32) : Nat → Int32 → Int32 → Option (Int32)
  | 0, _, _ => none
  | n + 1, v21, v22 =>
    if i7 < v22 then
    (some v21)
    else
    (bp (
    if (v22 &&& (i7 ^^^ (-1))) = 0 then
    (kd s20 this 5 <|
    bp (sX1_eyesOfAll s20 this v22) fun v26 =>
    if 6 ≤ v26 then
    (some 0)
    else
    (kd s20 this 5 <|
    bp (sX1_eyesOfAll s20 this (v22 ||| ((1 : Int32) <<< (i1 &&& 31)))) fun v29 =>
    if v29 < 6 then
    (some 0)
    else
    (some 1)))
    else
    (some 0)) fun (v24 : Int32) =>
    sX1_swings_L86 s20 this i1 i7 n (v21 + v24) (v22 + 1))
def sX1_swings (s0 : St) (this : Nat) (p0 : Int32) (p1 : Int32) (p2 : Int32) (p3 : Int32) : Option (St × Int64) :=
    kd s0 this 5 <|
    bp (sX1_isPerson s0 this p0) fun v2 =>
    bp (
    if v2 = 0 then
    (some 0)
    else
    (kd s0 this 5 <|
    bp (sX1_isPlace s0 this p1) fun v47 =>
    if v47 = 0 then
    (some 0)
    else
    (some 1))) fun (v4 : Int32) =>
    kd s0 this 5 <|
    bp (sX1_whyMinute s0 this v4 p2) fun v6 =>
    if v6 ≤ 0 then
    (gR s0 1002 (some this) fun v8 =>
    iv s0 21 v8 fun w9 =>
    bp (sX14_watchers s0 w9 p1 p2) fun v12 =>
    bp (sX1_has s0 v12 p0) fun v14 =>
    if v14 = 0 then
    (kd s0 this 5 <|
    bd (sX1_fraction s0 this 0 1 p3) fun s17 v18 =>
    some (s17, v18))
    else
    (bp (sX1_swings_L86 s0 this p0 (v12 &&& (((1 : Int32) <<< (p0 &&& 31)) ^^^ (-1))) FU 0 0) fun (v33 : Int32) =>
    bp (sX1_bits s0 (v12 &&& (((1 : Int32) <<< (p0 &&& 31)) ^^^ (-1)))) fun v34 =>
    kd s0 this 5 <|
    bd (sX1_fraction s0 this (Int32.toInt64 v33) (1 <<< (Int32.toInt64 v34 &&& 63)) p3) fun s37 v38 =>
    some (s37, v38)))
    else
    (kd s0 this 5 <|
    bd (sX1_refused s0 this v6) fun s43 v44 =>
    some (s43, (Int32.toInt64 v44)))
def sX2_lowest_L6 : Nat → Int64 → Int64 → Option (Int64)
  | 0, _, _ => none
  | n + 1, v2, v3 =>
    if (lg_cmp v3 0) = 0 then
    (some v2)
    else
    (dzL v3 <|
    sX2_lowest_L6 n v3 (v2 - v2 / v3 * v3))
def sX2_lowest (s0 : St) (p0 : Int64) (p1 : Int64) (p2 : Int32) : Option Int64 :=
    bp (sX2_lowest_L6 FU p1 p0) fun (v5 : Int64) =>
    bp (
    if p2 = 0 then
    (some p0)
    else
    (some p1)) fun (v6 : Int64) =>
    dzL v5 <|
    some (v6 / v5)
def sX2_swings_L97 (s24 : St) (this : Nat) (i1 : Int32) (i7 : Int32) : Nat → Int32 → Int32 → Int32 → Option (Int32 × Int32)
  | 0, _, _, _ => none
  | n + 1, v25, v26, v27 =>
    gR s24 1011 (some this) fun v30 =>
    lI s24 1 v30 3 fun v31 =>
    if ((1 : Int32) <<< (v31 &&& 31)) ≤ v27 then
    (some (v25, v26))
    else
    (b2 (
    if (v27 &&& (i7 ^^^ (-1))) = 0 then
    (kd s24 this 7 <|
    bp (sX2_eyesOf s24 this v27) fun v35 =>
    bp (
    if 6 ≤ v35 then
    (some 0)
    else
    (kd s24 this 7 <|
    bp (sX2_eyesOf s24 this v27) fun v39 =>
    gR s24 1018 (some this) fun v41 =>
    lI s24 1 v41 i1 fun v42 =>
    if (v39 + v42) < 6 then
    (some 0)
    else
    (some 1))) fun (v37 : Int32) =>
    some ((v25 + 1), (v26 + v37)))
    else
    (some (v25, v26))) fun (v32 : Int32) (v33 : Int32) =>
    sX2_swings_L97 s24 this i1 i7 n v32 v33 (v27 + 1))
def sX2_swings (s0 : St) (this : Nat) (p0 : Int32) (p1 : Int32) (p2 : Int32) (p3 : Int32) : Option (St × Int64) :=
    kd s0 this 7 <|
    bp (sX2_good s0 this) fun s2 =>
    kd s2 this 7 <|
    bp (sX2_isPerson s2 this p0) fun v5 =>
    bp (
    if v5 = 0 then
    (some 0)
    else
    (kd s2 this 7 <|
    bp (sX2_isPlace s2 this p1) fun v58 =>
    if v58 = 0 then
    (some 0)
    else
    (some 1))) fun (v7 : Int32) =>
    kd s2 this 7 <|
    bp (sX2_isMinute s2 this p2) fun v9 =>
    kd s2 this 7 <|
    bp (sX2_why s2 this v7 v9) fun v12 =>
    if v12 = 0 then
    (kd s2 this 7 <|
    bp (sX2_asNow s2 this) fun s15 =>
    kd s15 this 7 <|
    bp (sX2_watchersOf s15 this p1 p2) fun v18 =>
    bp (sX2_hasBit s15 v18 p0) fun v20 =>
    if v20 = 0 then
    (bp (sX2_lowest s15 0 1 p3) fun v22 =>
    some (s15, v22))
    else
    (b2 (sX2_swings_L97 s15 this p0 (v18 &&& (((1 : Int32) <<< (p0 &&& 31)) ^^^ (-1))) FU 0 0 0) fun (v47 : Int32) (v48 : Int32) =>
    bp (sX2_lowest s15 (Int32.toInt64 v48) (Int32.toInt64 v47) p3) fun v49 =>
    some (s15, v49)))
    else
    (kd s2 this 7 <|
    bd (sX2_no s2 this v12) fun s54 v55 =>
    some (s54, (Int32.toInt64 v55)))
def sX1_three_L39 (s13 : St) (this : Nat) (i4 : Int32) : Nat → Int32 → Int32 → Option (Int32)
  | 0, _, _ => none
  | n + 1, v14, v15 =>
    if i4 < v15 then
    (some v14)
    else
    (bp (
    if (v15 &&& (i4 ^^^ (-1))) = 0 then
    (kd s13 this 5 <|
    bp (sX1_eyesOfAll s13 this v15) fun v19 =>
    if v19 < 6 then
    (some v14)
    else
    (if v14 = (-2) then
    (some v15)
    else
    (bp (sX1_bits s13 v15) fun v21 =>
    bp (sX1_bits s13 v14) fun v23 =>
    if v23 ≤ v21 then
    (some v14)
    else
    (some v15))))
    else
    (some v14)) fun (v17 : Int32) =>
    sX1_three_L39 s13 this i4 n v17 (v15 + 1))
def sX1_three (s0 : St) (this : Nat) (p0 : Int32) (p1 : Int32) : Option (St × Int32) :=
    kd s0 this 5 <|
    bp (sX1_isPlace s0 this p0) fun v2 =>
    kd s0 this 5 <|
    bp (sX1_whyMinute s0 this v2 p1) fun v5 =>
    if v5 ≤ 0 then
    (gR s0 1002 (some this) fun v7 =>
    iv s0 21 v7 fun w8 =>
    bp (sX14_watchers s0 w8 p0 p1) fun v11 =>
    bp (sX1_three_L39 s0 this v11 FU (-2) 0) fun (v27 : Int32) =>
    kd s0 this 5 <|
    bd (sX1_well s0 this v27) fun s29 v30 =>
    some (s29, v30))
    else
    (kd s0 this 5 <|
    bd (sX1_refused s0 this v5) fun s35 v36 =>
    some (s35, v36))
def sX2_three_L48 (s19 : St) (this : Nat) (i4 : Int32) : Nat → Int32 → Int32 → Option (Int32)
  | 0, _, _ => none
  | n + 1, v20, v21 =>
    gR s19 1011 (some this) fun v23 =>
    lI s19 1 v23 3 fun v24 =>
    if ((1 : Int32) <<< (v24 &&& 31)) ≤ v21 then
    (some v20)
    else
    (bp (
    if (v21 &&& (i4 ^^^ (-1))) = 0 then
    (kd s19 this 7 <|
    bp (sX2_eyesOf s19 this v21) fun v27 =>
    if v27 < 6 then
    (some v20)
    else
    (if v20 < 0 then
    (some v21)
    else
    (bp (sX2_ones s19 v21) fun v29 =>
    bp (sX2_ones s19 v20) fun v31 =>
    if v31 ≤ v29 then
    (some v20)
    else
    (some v21))))
    else
    (some v20)) fun (v25 : Int32) =>
    sX2_three_L48 s19 this i4 n v25 (v21 + 1))
def sX2_three (s0 : St) (this : Nat) (p0 : Int32) (p1 : Int32) : Option (St × Int32) :=
    kd s0 this 7 <|
    bp (sX2_good s0 this) fun s2 =>
    kd s2 this 7 <|
    bp (sX2_isPlace s2 this p0) fun v5 =>
    kd s2 this 7 <|
    bp (sX2_isMinute s2 this p1) fun v8 =>
    kd s2 this 7 <|
    bp (sX2_why s2 this v5 v8) fun v11 =>
    if v11 = 0 then
    (kd s2 this 7 <|
    bp (sX2_asNow s2 this) fun s14 =>
    kd s14 this 7 <|
    bp (sX2_watchersOf s14 this p0 p1) fun v17 =>
    bp (sX2_three_L48 s14 this v17 FU (-2) 0) fun (v35 : Int32) =>
    some (s14, v35))
    else
    (kd s2 this 7 <|
    bd (sX2_no s2 this v11) fun s39 v40 =>
    some (s39, v40))
def sX1_whyHeat (s0 : St) (this : Nat) (p0 : Int32) : Option Int32 :=
    gR s0 1001 (some this) fun v1 =>
    bp (
    if v1 = none then
    (some 0)
    else
    (some 1)) fun (v2 : Int32) =>
    kd s0 this 5 <|
    bp (sX1_why s0 this v2 p0 0 9) fun v4 =>
    some v4
def sX1_refusedBy (s0 : St) (this : Nat) (p0 : Int32) (p1 : Int32) : Option (St × Int32) :=
    kd s0 this 5 <|
    bd (sX1_refused s0 this p0) fun s2 v3 =>
    some (s2, p1)
def sX1_gets (s0 : St) (p0 : Int32) (p1 : Int32) (p2 : Int32) : Option Int32 :=
    if p1 = 0 then
    (if p2 = 0 then
    (some 2)
    else
    (some (-p0)))
    else
    (if p2 = 0 then
    (some 4)
    else
    (some (1 - p0)))
def sX1_says (s0 : St) (this : Nat) (p0 : Int32) (p1 : Int32) (p2 : Int32) (p3 : Int32) : Option (St × Int32) :=
    kd s0 this 5 <|
    bp (sX1_whyHeat s0 this p0) fun v2 =>
    if v2 ≤ 0 then
    (bp (
    if p3 = 0 then
    (bp (sX1_gets s0 p0 p1 p2) fun v9 =>
    some v9)
    else
    (bp (sX1_gets s0 p0 p2 p1) fun v11 =>
    some v11)) fun (v4 : Int32) =>
    kd s0 this 5 <|
    bd (sX1_well s0 this v4) fun s6 v7 =>
    some (s6, v7))
    else
    (kd s0 this 5 <|
    bd (sX1_refusedBy s0 this v2 (-100)) fun s16 v17 =>
    some (s16, v17))
def sX2_saysOf (s0 : St) (p0 : Int32) (p1 : Int32) (p2 : Int32) : Option Int32 :=
    if p1 = 0 then
    (if p2 = 0 then
    (some 2)
    else
    (some (-p0)))
    else
    (if p2 = 0 then
    (some 4)
    else
    (some (1 - p0)))
def sX2_says (s0 : St) (this : Nat) (p0 : Int32) (p1 : Int32) (p2 : Int32) (p3 : Int32) : Option (St × Int32) :=
    kd s0 this 7 <|
    bp (sX2_good s0 this) fun s2 =>
    gI s2 31 (some this) fun v4 =>
    bp (sX2_in s2 p0 0 9) fun v5 =>
    kd s2 this 7 <|
    bp (sX2_why s2 this v4 v5) fun v8 =>
    if v8 = 0 then
    (if p3 = 0 then
    (bp (sX2_saysOf s2 p0 p1 p2) fun v10 =>
    some (s2, v10))
    else
    (bp (sX2_saysOf s2 p0 p2 p1) fun v12 =>
    some (s2, v12)))
    else
    (pI s2 29 (some this) v8 fun s14 =>
    some (s14, (-100)))
def sX1_isRest (s0 : St) (p0 : Int32) (p1 : Int32) : Option Int32 :=
    bp (
    if p1 ≤ 1 then
    (some 0)
    else
    (some 1)) fun (v1 : Int32) =>
    dzI (2 : Int32) <|
    bp (
    if (p1 - p1 / 2 * 2) = 1 then
    (some 1)
    else
    (some 0)) fun (v2 : Int32) =>
    bp (
    if v1 = 0 then
    (some 1)
    else
    (some 0)) fun (v3 : Int32) =>
    bp (sX1_gets s0 p0 v3 v2) fun v4 =>
    bp (sX1_gets s0 p0 v1 v2) fun v6 =>
    if v6 < v4 then
    (some 0)
    else
    (bp (
    if v2 = 0 then
    (some 1)
    else
    (some 0)) fun (v8 : Int32) =>
    bp (sX1_gets s0 p0 v8 v1) fun v9 =>
    bp (sX1_gets s0 p0 v2 v1) fun v11 =>
    if v11 < v9 then
    (some 0)
    else
    (some 1))
def sX1_rests_L21 (s4 : St) (i1 : Int32) : Nat → Int32 → Int32 → Option (Int32)
  | 0, _, _ => none
  | n + 1, v5, v6 =>
    if 4 ≤ v6 then
    (some v5)
    else
    (bp (sX1_isRest s4 i1 v6) fun v8 =>
    bp (
    if v8 = 0 then
    (some 0)
    else
    (some 1)) fun (v10 : Int32) =>
    sX1_rests_L21 s4 i1 n (v5 + v10) (v6 + 1))
def sX1_rests (s0 : St) (this : Nat) (p0 : Int32) : Option (St × Int32) :=
    kd s0 this 5 <|
    bp (sX1_whyHeat s0 this p0) fun v2 =>
    if v2 ≤ 0 then
    (bp (sX1_rests_L21 s0 p0 FU 0 0) fun (v13 : Int32) =>
    kd s0 this 5 <|
    bd (sX1_well s0 this v13) fun s15 v16 =>
    some (s15, v16))
    else
    (kd s0 this 5 <|
    bd (sX1_refused s0 this v2) fun s21 v22 =>
    some (s21, v22))
def sX2_seekRests_L10 (this : Nat) (i1 : Int32) : Nat → St → Int32 → Int32 → Option (St × Int32)
  | 0, _, _, _ => none
  | n + 1, s2, v3, v4 =>
    if 4 ≤ v4 then
    (some (s2, v3))
    else
    (bp (
    if v4 ≤ 1 then
    (some 0)
    else
    (some 1)) fun (v7 : Int32) =>
    dzI (2 : Int32) <|
    bp (
    if (v4 - v4 / 2 * 2) = 1 then
    (some 1)
    else
    (some 0)) fun (v8 : Int32) =>
    bp (
    if v7 = 0 then
    (some 1)
    else
    (some 0)) fun (v9 : Int32) =>
    bp (sX2_saysOf s2 i1 v9 v8) fun v10 =>
    bp (sX2_saysOf s2 i1 v7 v8) fun v12 =>
    b2 (
    if v12 < v10 then
    (some (s2, v3))
    else
    (bp (
    if v8 = 0 then
    (some 1)
    else
    (some 0)) fun (v16 : Int32) =>
    bp (sX2_saysOf s2 i1 v16 v7) fun v17 =>
    bp (sX2_saysOf s2 i1 v8 v7) fun v19 =>
    if v17 ≤ v19 then
    (bp (
    if v3 = 0 then
    (dzI (2 : Int32) <|
    dzI (2 : Int32) <|
    pI s2 44 (some this) ((10 * (v4 / 2)) + (v4 - v4 / 2 * 2)) fun s22 =>
    some s22)
    else
    (some s2)) fun (s21 : St) =>
    some (s21, (v3 + 1)))
    else
    (some (s2, v3)))) fun (s14 : St) (v15 : Int32) =>
    sX2_seekRests_L10 this i1 n s14 v15 (v4 + 1))
def sX2_seekRests (s0 : St) (this : Nat) (p0 : Int32) : Option (St × Int32) :=
    pI s0 44 (some this) (-2) fun s1 =>
    b2 (sX2_seekRests_L10 this p0 FU s1 0 0) fun (s35 : St) (v36 : Int32) =>
    some (s35, v36)
def sX2_rests (s0 : St) (this : Nat) (p0 : Int32) : Option (St × Int32) :=
    kd s0 this 7 <|
    bp (sX2_good s0 this) fun s2 =>
    gI s2 31 (some this) fun v4 =>
    bp (sX2_in s2 p0 0 9) fun v5 =>
    kd s2 this 7 <|
    bp (sX2_why s2 this v4 v5) fun v8 =>
    if v8 = 0 then
    (kd s2 this 7 <|
    bd (sX2_seekRests s2 this p0) fun s11 v12 =>
    some (s11, v12))
    else
    (kd s2 this 7 <|
    bd (sX2_no s2 this v8) fun s15 v16 =>
    some (s15, v16))
def sX1_rest_L18 (s4 : St) (this : Nat) (i1 : Int32) : Nat → Int32 → Option ((St × Int32) ⊕ (Unit))
  | 0, _ => none
  | n + 1, v5 =>
    if 4 ≤ v5 then
    (some (.inr ()))
    else
    (bp (sX1_isRest s4 i1 v5) fun v6 =>
    if v6 = 0 then
    (sX1_rest_L18 s4 this i1 n (v5 + 1))
    else
    (dzI (2 : Int32) <|
    dzI (2 : Int32) <|
    kd s4 this 5 <|
    bd (sX1_well s4 this ((10 * (v5 / 2)) + (v5 - v5 / 2 * 2))) fun s9 v10 =>
    some (.inl (s9, v10))))
def sX1_rest (s0 : St) (this : Nat) (p0 : Int32) : Option (St × Int32) :=
    kd s0 this 5 <|
    bp (sX1_whyHeat s0 this p0) fun v2 =>
    if v2 ≤ 0 then
    (lc (sX1_rest_L18 s0 this p0 FU 0) fun _ =>
    kd s0 this 5 <|
    bd (sX1_well s0 this (-2)) fun s13 v14 =>
    some (s13, v14))
    else
    (kd s0 this 5 <|
    bd (sX1_refused s0 this v2) fun s21 v22 =>
    some (s21, v22))
def sX2_rest (s0 : St) (this : Nat) (p0 : Int32) : Option (St × Int32) :=
    kd s0 this 7 <|
    bp (sX2_good s0 this) fun s2 =>
    gI s2 31 (some this) fun v4 =>
    bp (sX2_in s2 p0 0 9) fun v5 =>
    kd s2 this 7 <|
    bp (sX2_why s2 this v4 v5) fun v8 =>
    if v8 = 0 then
    (kd s2 this 7 <|
    bd (sX2_seekRests s2 this p0) fun s11 v12 =>
    gI s11 44 (some this) fun v14 =>
    some (s11, v14))
    else
    (kd s2 this 7 <|
    bd (sX2_no s2 this v8) fun s16 v17 =>
    some (s16, v17))
def sX1_lasts_L69 (this : Nat) : Nat → St → Int32 → Option (St)
  | 0, _, _ => none
  | n + 1, s20, v21 =>
    gR s20 1007 (some this) fun v23 =>
    aN s20 v23 fun v24 =>
    if v24 ≤ v21 then
    (some s20)
    else
    (gR s20 1007 (some this) fun v25 =>
    bp (
    if v21 = 0 then
    (some 1)
    else
    (some 0)) fun (v26 : Int64) =>
    tL s20 v25 v21 v26 fun s27 =>
    sX1_lasts_L69 this n s27 (v21 + 1))
def sX1_lasts_L186 (this : Nat) (i9 : Int32) : Nat → St → Int32 → Option (St)
  | 0, _, _ => none
  | n + 1, s50, v51 =>
    if v51 < 0 then
    (some s50)
    else
    (gR s50 1007 (some this) fun v53 =>
    lL s50 v53 v51 fun v54 =>
    gR s50 1001 (some this) fun v55 =>
    gI s50 49 v55 fun v56 =>
    bp (
    if v51 ≤ 0 then
    (some 0)
    else
    (gR s50 1007 (some this) fun v66 =>
    lL s50 v66 (v51 - 1) fun v67 =>
    gR s50 1001 (some this) fun v68 =>
    gI s50 49 v68 fun v69 =>
    some (v67 * (Int32.toInt64 v69)))) fun (v57 : Int64) =>
    gR s50 1007 (some this) fun v58 =>
    kd s50 this 5 <|
    bp (sX1_eyesOfAll s50 this i9) fun v60 =>
    bp (
    if (v60 + (2 * v51)) < 6 then
    (some ((v54 * (Int32.toInt64 (100 - v56))) + v57))
    else
    (some 0)) fun (v62 : Int64) =>
    tL s50 v58 v51 v62 fun s63 =>
    sX1_lasts_L186 this i9 n s63 (v51 + (-1)))
def sX1_lasts_L105 (this : Nat) (i2 : Int32) (i5 : Option Nat) (i6 : Int32) : Nat → St → Int64 → Int32 → Int32 → Option (St × Int64)
  | 0, _, _, _, _ => none
  | n + 1, s31, v32, v33, v34 =>
    if i2 ≤ v34 then
    (some (s31, v32))
    else
    (gI s31 74 i5 fun v37 =>
    if i6 < (v37 + v34) then
    (some (s31, v32))
    else
    (gR s31 1002 (some this) fun v38 =>
    gI s31 73 i5 fun v39 =>
    gI s31 74 i5 fun v40 =>
    iv s31 21 v38 fun w41 =>
    bp (sX14_watchers s31 w41 v39 (v40 + v34)) fun v44 =>
    gI s31 71 i5 fun v46 =>
    gI s31 72 i5 fun v47 =>
    gR s31 1007 (some this) fun v48 =>
    aN s31 v48 fun v49 =>
    bp (sX1_lasts_L186 this (v33 ||| ((v44 &&& (((1 : Int32) <<< (v46 &&& 31)) ^^^ (-1))) &&& (((1 : Int32) <<< (v47 &&& 31)) ^^^ (-1)))) FU s31 (v49 - 1)) fun (s72 : St) =>
    sX1_lasts_L105 this i2 i5 i6 n s72 (v32 * 100) (v33 ||| ((v44 &&& (((1 : Int32) <<< (v46 &&& 31)) ^^^ (-1))) &&& (((1 : Int32) <<< (v47 &&& 31)) ^^^ (-1)))) (v34 + 1)))
def sX1_lasts_L287 (s77 : St) (this : Nat) : Nat → Int64 → Int32 → Option (Int64)
  | 0, _, _ => none
  | n + 1, v78, v79 =>
    gR s77 1007 (some this) fun v81 =>
    aN s77 v81 fun v82 =>
    if v82 ≤ v79 then
    (some v78)
    else
    (gR s77 1007 (some this) fun v83 =>
    lL s77 v83 v79 fun v84 =>
    sX1_lasts_L287 s77 this n (v78 + v84) (v79 + 1))
def sX1_lasts (s0 : St) (this : Nat) (p0 : Int32) (p1 : Int32) (p2 : Int32) : Option (St × Int64) :=
    kd s0 this 5 <|
    bp (sX1_isQuarrel s0 this p0) fun v2 =>
    kd s0 this 5 <|
    bp (sX1_why s0 this v2 p1 0 6) fun v5 =>
    if v5 ≤ 0 then
    (gR s0 1001 (some this) fun v7 =>
    iv s0 10 v7 fun w8 =>
    bp (sX5_quarrel s0 w8 p0) fun v11 =>
    kd s0 this 5 <|
    bd (sX1_brawlsNow s0 this p0) fun s14 v15 =>
    bp (sX1_isWon s14 v15) fun v17 =>
    bp (
    if v17 = 0 then
    (some 59)
    else
    (gI s14 7 (some this) fun v96 =>
    some v96)) fun (v19 : Int32) =>
    bp (sX1_lasts_L69 this FU s14 0) fun (s30 : St) =>
    b2 (sX1_lasts_L105 this p1 v11 v19 FU s30 1 0 0) fun (s75 : St) (v76 : Int64) =>
    bp (sX1_lasts_L287 s75 this FU 0 0) fun (v85 : Int64) =>
    kd s75 this 5 <|
    bd (sX1_fraction s75 this v85 v76 p2) fun s87 v88 =>
    some (s87, v88))
    else
    (kd s0 this 5 <|
    bd (sX1_refused s0 this v5) fun s100 v101 =>
    some (s100, (Int32.toInt64 v101)))
def sX2_runWithBoys (s0 : St) (this : Nat) (p0 : Int32) : Option St :=
    gR s0 1011 (some this) fun v1 =>
    lI s0 1 v1 ((80 + (5 * p0)) + 2) fun v2 =>
    gR s0 1011 (some this) fun v3 =>
    lI s0 1 v3 ((80 + (5 * p0)) + 3) fun v4 =>
    kd s0 this 7 <|
    bp (sX2_run s0 this p0 v2 v4 1) fun s6 =>
    some s6
def sX2_lasts_L62 (s22 : St) (this : Nat) (i2 : Int32) (i9 : Int32) : Nat → Int64 → Int32 → Option (Int64)
  | 0, _, _ => none
  | n + 1, v23, v24 =>
    if i2 ≤ v24 then
    (some v23)
    else
    (bp (sX2_hasBit s22 i9 v24) fun v26 =>
    bp (
    if v26 = 0 then
    (gR s22 1011 (some this) fun v29 =>
    lI s22 1 v29 0 fun v30 =>
    some (Int32.toInt64 (100 - v30)))
    else
    (gR s22 1011 (some this) fun v31 =>
    lI s22 1 v31 0 fun v32 =>
    some (Int32.toInt64 v32))) fun (v28 : Int64) =>
    sX2_lasts_L62 s22 this i2 i9 n (v23 * v28) (v24 + 1))
def sX2_lasts_L48 (this : Nat) (i1 : Int32) (i2 : Int32) : Nat → St → Int64 → Int64 → Int32 → Option (St × Int64 × Int64)
  | 0, _, _, _, _ => none
  | n + 1, s15, v16, v17, v18 =>
    if ((1 : Int32) <<< (i2 &&& 31)) ≤ v18 then
    (some (s15, v16, v17))
    else
    (bp (sX2_lasts_L62 s15 this i2 v18 FU 1 0) fun (v35 : Int64) =>
    pI s15 39 (some this) v18 fun s36 =>
    kd s36 this 7 <|
    bp (sX2_runWithBoys s36 this i1) fun s38 =>
    gI s38 34 (some this) fun v40 =>
    bp (
    if v40 = 0 then
    (gI s38 35 (some this) fun v42 =>
    gR s38 1011 (some this) fun v43 =>
    lI s38 1 v43 ((80 + (5 * i1)) + 3) fun v44 =>
    if (v44 + i2) ≤ v42 then
    (some v35)
    else
    (some 0))
    else
    (some v35)) fun (v41 : Int64) =>
    sX2_lasts_L48 this i1 i2 n s38 (v16 + v41) (v17 + v35) (v18 + 1))
def sX2_lasts (s0 : St) (this : Nat) (p0 : Int32) (p1 : Int32) (p2 : Int32) : Option (St × Int64) :=
    kd s0 this 7 <|
    bp (sX2_good s0 this) fun s2 =>
    kd s2 this 7 <|
    bp (sX2_isQuarrel s2 this p0) fun v5 =>
    bp (sX2_in s2 p1 0 6) fun v7 =>
    kd s2 this 7 <|
    bp (sX2_why s2 this v5 v7) fun v10 =>
    if v10 = 0 then
    (kd s2 this 7 <|
    bp (sX2_asNow s2 this) fun s13 =>
    b3 (sX2_lasts_L48 this p0 p1 FU s13 0 0 0) fun (s49 : St) (v50 : Int64) (v51 : Int64) =>
    bp (sX2_lowest s49 v50 v51 p2) fun v52 =>
    some (s49, v52))
    else
    (kd s2 this 7 <|
    bd (sX2_no s2 this v10) fun s57 v58 =>
    some (s57, (Int32.toInt64 v58)))
def sX1_whySeed (s0 : St) (this : Nat) (p0 : Int32) (p1 : Int32) : Option Int32 :=
    kd s0 this 5 <|
    bp (sX1_isQuarrel s0 this p0) fun v2 =>
    kd s0 this 5 <|
    bp (sX1_why s0 this v2 p1 0 65536) fun v5 =>
    some v5
def sX1_brawlsBy (s0 : St) (this : Nat) (p0 : Int32) : Option (St × Int32) :=
    pI s0 12 (some this) 1 fun s1 =>
    kd s1 this 5 <|
    bd (sX1_brawlsNow s1 this p0) fun s3 v4 =>
    pI s3 12 (some this) 0 fun s6 =>
    some (s6, v4)
def sX1_endsBy (s0 : St) (this : Nat) (p0 : Int32) (p1 : Int32) : Option (St × Int32) :=
    kd s0 this 5 <|
    bp (sX1_whySeed s0 this p0 p1) fun v2 =>
    if v2 ≤ 0 then
    (pI s0 11 (some this) p1 fun s4 =>
    kd s4 this 5 <|
    bd (sX1_brawlsBy s4 this p0) fun s6 v7 =>
    kd s6 this 5 <|
    bd (sX1_well s6 this v7) fun s10 v11 =>
    some (s10, v11))
    else
    (kd s0 this 5 <|
    bd (sX1_refused s0 this v2) fun s14 v15 =>
    some (s14, v15))
def sX2_drawWhy (s0 : St) (this : Nat) (p0 : Int32) (p1 : Int32) (p2 : Int32) : Option (St × Int32) :=
    kd s0 this 7 <|
    bp (sX2_isQuarrel s0 this p0) fun v2 =>
    bp (sX2_in s0 p1 0 65536) fun v4 =>
    bp (
    if v4 = 0 then
    (some 0)
    else
    (if p2 = 0 then
    (some 0)
    else
    (some 1))) fun (v6 : Int32) =>
    kd s0 this 7 <|
    bp (sX2_why s0 this v2 v6) fun v8 =>
    if v8 = 0 then
    (kd s0 this 7 <|
    bp (sX2_asNow s0 this) fun s11 =>
    pI s11 39 (some this) (-1) fun s13 =>
    pI s13 40 (some this) p1 fun s14 =>
    some (s14, 0))
    else
    (some (s0, v8))
def sX2_endsBy (s0 : St) (this : Nat) (p0 : Int32) (p1 : Int32) : Option (St × Int32) :=
    kd s0 this 7 <|
    bp (sX2_good s0 this) fun s2 =>
    kd s2 this 7 <|
    bd (sX2_drawWhy s2 this p0 p1 1) fun s5 v6 =>
    if v6 = 0 then
    (kd s5 this 7 <|
    bp (sX2_runWithBoys s5 this p0) fun s9 =>
    gI s9 34 (some this) fun v11 =>
    some (s9, v11))
    else
    (kd s5 this 7 <|
    bd (sX2_no s5 this v6) fun s13 v14 =>
    some (s13, v14))
def sX1_endsByAt (s0 : St) (this : Nat) (p0 : Int32) (p1 : Int32) : Option (St × Int32) :=
    kd s0 this 5 <|
    bp (sX1_whySeed s0 this p0 p1) fun v2 =>
    if v2 ≤ 0 then
    (pI s0 11 (some this) p1 fun s4 =>
    kd s4 this 5 <|
    bd (sX1_brawlsBy s4 this p0) fun s6 v7 =>
    gI s6 7 (some this) fun v9 =>
    kd s6 this 5 <|
    bd (sX1_well s6 this v9) fun s11 v12 =>
    some (s11, v12))
    else
    (kd s0 this 5 <|
    bd (sX1_refused s0 this v2) fun s15 v16 =>
    some (s15, v16))
def sX2_endsByAt (s0 : St) (this : Nat) (p0 : Int32) (p1 : Int32) : Option (St × Int32) :=
    kd s0 this 7 <|
    bp (sX2_good s0 this) fun s2 =>
    kd s2 this 7 <|
    bd (sX2_drawWhy s2 this p0 p1 1) fun s5 v6 =>
    if v6 = 0 then
    (kd s5 this 7 <|
    bp (sX2_runWithBoys s5 this p0) fun s9 =>
    gI s9 35 (some this) fun v11 =>
    some (s9, v11))
    else
    (kd s5 this 7 <|
    bd (sX2_no s5 this v6) fun s13 v14 =>
    some (s13, v14))
def sX1_wins_L47 (this : Nat) (i1 : Int32) (i3 : Int32) : Nat → St → Int32 → Int32 → Option (St × Int32)
  | 0, _, _, _ => none
  | n + 1, s6, v7, v8 =>
    if i3 ≤ v8 then
    (some (s6, v7))
    else
    (kd s6 this 5 <|
    bd (sX1_brawlsBy s6 this i1) fun s12 v13 =>
    bp (sX1_isWon s12 v13) fun v15 =>
    bp (
    if v15 = 0 then
    (some 0)
    else
    (some 1)) fun (v17 : Int32) =>
    sX1_wins_L47 this i1 i3 n s12 (v7 + v17) (v8 + 1))
def sX1_wins (s0 : St) (this : Nat) (p0 : Int32) (p1 : Int32) (p2 : Int32) : Option (St × Int32) :=
    kd s0 this 5 <|
    bp (sX1_whySeed s0 this p0 p1) fun v2 =>
    bp (
    if v2 = 0 then
    (kd s0 this 5 <|
    bp (sX1_why s0 this 1 p2 0 30) fun v33 =>
    some v33)
    else
    (some v2)) fun (v4 : Int32) =>
    if v4 ≤ 0 then
    (pI s0 11 (some this) p1 fun s5 =>
    b2 (sX1_wins_L47 this p0 p2 FU s5 0 0) fun (s20 : St) (v21 : Int32) =>
    kd s20 this 5 <|
    bd (sX1_well s20 this v21) fun s23 v24 =>
    some (s23, v24))
    else
    (kd s0 this 5 <|
    bd (sX1_refused s0 this v4) fun s29 v30 =>
    some (s29, v30))
def sX2_wins_L37 (this : Nat) (i1 : Int32) (i3 : Int32) : Nat → St → Int32 → Int32 → Option (St × Int32)
  | 0, _, _, _ => none
  | n + 1, s10, v11, v12 =>
    if i3 ≤ v12 then
    (some (s10, v11))
    else
    (kd s10 this 7 <|
    bp (sX2_runWithBoys s10 this i1) fun s16 =>
    gI s16 34 (some this) fun v18 =>
    bp (
    if v18 ≤ 0 then
    (some 0)
    else
    (some 1)) fun (v19 : Int32) =>
    sX2_wins_L37 this i1 i3 n s16 (v11 + v19) (v12 + 1))
def sX2_wins (s0 : St) (this : Nat) (p0 : Int32) (p1 : Int32) (p2 : Int32) : Option (St × Int32) :=
    kd s0 this 7 <|
    bp (sX2_good s0 this) fun s2 =>
    bp (sX2_in s2 p2 0 30) fun v4 =>
    kd s2 this 7 <|
    bd (sX2_drawWhy s2 this p0 p1 v4) fun s7 v8 =>
    if v8 = 0 then
    (b2 (sX2_wins_L37 this p0 p2 FU s7 0 0) fun (s22 : St) (v23 : Int32) =>
    some (s22, v23))
    else
    (kd s7 this 7 <|
    bd (sX2_no s7 this v8) fun s27 v28 =>
    some (s27, v28))
def sX1_denied (s0 : St) (this : Nat) (p0 : Int32) : Option (St × Int32) :=
    kd s0 this 5 <|
    bd (sX1_refused s0 this p0) fun s2 v3 =>
    some (s2, 0)
def sJ2_fastRemove (s0 : St) (this : Nat) (p0 : Option Nat) (p1 : Int32) : Option St :=
    gI s0 17 (some this) fun v1 =>
    pI s0 17 (some this) (v1 + 1) fun s2 =>
    gI s2 18 (some this) fun v3 =>
    bp (
    if (v3 - 1) ≤ p1 then
    (some s2)
    else
    (cpR s2 p0 (p1 + 1) p0 p1 ((v3 - 1) - p1) fun s7 =>
    some s7)) fun (s4 : St) =>
    pI s4 18 (some this) (v3 - 1) fun s5 =>
    tR s5 p0 (v3 - 1) none fun s6 =>
    some s6
def sJ2_remove (s0 : St) (this : Nat) (p0 : Int32) : Option (St × Option Nat) :=
    gI s0 18 (some this) fun v1 =>
    bp (sJ12_checkIndex s0 p0 v1) fun v2 =>
    gR s0 1008 (some this) fun v4 =>
    lR s0 v4 p0 fun v5 =>
    kd s0 this 6 <|
    bp (sJ2_fastRemove s0 this v4 p0) fun s7 =>
    some (s7, v5)
def sX1_remembers (s0 : St) (this : Nat) : Option St :=
    gR s0 1004 (some this) fun v1 =>
    iv s0 6 v1 fun w2 =>
    bp (sJ2_size s0 w2) fun v5 =>
    bp (
    if v5 = 16 then
    (gR s0 1004 (some this) fun v24 =>
    iv s0 6 v24 fun w25 =>
    bd (sJ2_remove s0 w25 0) fun s28 v29 =>
    some s28)
    else
    (some s0)) fun (s7 : St) =>
    gR s7 1004 (some this) fun v8 =>
    gR s7 1002 (some this) fun v9 =>
    iv s7 6 v8 fun w10 =>
    bd (sJ2_add s7 w10 v9) fun s13 v14 =>
    gR s13 1002 (some this) fun v16 =>
    iv s13 21 v16 fun w17 =>
    bd (sX14_copy s13 w17) fun s20 v21 =>
    pR s20 1002 (some this) v21 fun s23 =>
    some s23
def sX1_granted (s0 : St) (this : Nat) : Option (St × Int32) :=
    kd s0 this 5 <|
    bd (sX1_well s0 this 0) fun s2 v3 =>
    some (s2, 1)
def sX1_bricksUp (s0 : St) (this : Nat) (p0 : Int32) (p1 : Int32) : Option (St × Int32) :=
    kd s0 this 5 <|
    bp (sX1_isSight s0 this p0) fun v2 =>
    if v2 = 0 then
    (kd s0 this 5 <|
    bd (sX1_denied s0 this 1) fun s5 v6 =>
    ok (okZ v6) <|
    some (s5, v6))
    else
    (gR s0 1002 (some this) fun v9 =>
    gI s0 77 v9 fun v10 =>
    bp (sX1_has s0 v10 p0) fun v11 =>
    if v11 = p1 then
    (kd s0 this 5 <|
    bd (sX1_denied s0 this 5) fun s14 v15 =>
    ok (okZ v15) <|
    some (s14, v15))
    else
    (kd s0 this 5 <|
    bp (sX1_remembers s0 this) fun s19 =>
    gR s19 1002 (some this) fun v21 =>
    gI s19 77 v21 fun v22 =>
    pI s19 77 v21 (v22 ^^^ ((1 : Int32) <<< (p0 &&& 31))) fun s23 =>
    kd s23 this 5 <|
    bd (sX1_granted s23 this) fun s25 v26 =>
    ok (okZ v26) <|
    some (s25, v26)))
def sX1_brick (s0 : St) (this : Nat) (p0 : Int32) : Option (St × Int32) :=
    kd s0 this 5 <|
    bd (sX1_bricksUp s0 this p0 1) fun s2 v3 =>
    ok (okZ v3) <|
    some (s2, v3)
def sX2_isNot (s0 : St) (this : Nat) (p0 : Int32) : Option (St × Int32) :=
    pI s0 29 (some this) p0 fun s1 =>
    some (s1, 0)
def sX2_note_L11 (this : Nat) : Nat → St → Int32 → Option (St)
  | 0, _, _ => none
  | n + 1, s10, v11 =>
    if 120 ≤ v11 then
    (some s10)
    else
    (gR s10 1014 (some this) fun v13 =>
    gR s10 1014 (some this) fun v14 =>
    lI s10 1 v14 (v11 + 8) fun v15 =>
    tI s10 v13 v11 v15 fun s16 =>
    sX2_note_L11 this n s16 (v11 + 1))
def sX2_note (s0 : St) (this : Nat) : Option St :=
    gI s0 32 (some this) fun v1 =>
    bp (
    if v1 = 16 then
    (bp (sX2_note_L11 this FU s0 0) fun (s17 : St) =>
    gI s17 32 (some this) fun v18 =>
    pI s17 32 (some this) (v18 - 1) fun s19 =>
    some s19)
    else
    (some s0)) fun (s2 : St) =>
    gR s2 1013 (some this) fun v3 =>
    gR s2 1014 (some this) fun v4 =>
    gI s2 32 (some this) fun v5 =>
    bp (sX2_copy s2 v3 0 v4 (8 * v5) 8) fun s6 =>
    gI s6 32 (some this) fun v8 =>
    pI s6 32 (some this) (v8 + 1) fun s9 =>
    some s9
def sX2_becomes (s0 : St) (this : Nat) (p0 : Int32) (p1 : Int32) : Option (St × Int32) :=
    kd s0 this 7 <|
    bp (sX2_isSight s0 this p0) fun v2 =>
    if v2 = 0 then
    (kd s0 this 7 <|
    bd (sX2_isNot s0 this 1) fun s5 v6 =>
    ok (okZ v6) <|
    some (s5, v6))
    else
    (gR s0 1013 (some this) fun v9 =>
    lI s0 1 v9 6 fun v10 =>
    bp (sX2_hasBit s0 v10 p0) fun v11 =>
    if v11 = p1 then
    (kd s0 this 7 <|
    bd (sX2_isNot s0 this 5) fun s14 v15 =>
    ok (okZ v15) <|
    some (s14, v15))
    else
    (kd s0 this 7 <|
    bp (sX2_note s0 this) fun s19 =>
    gR s19 1013 (some this) fun v21 =>
    lI s19 1 v21 6 fun v22 =>
    tI s19 v21 6 (v22 ^^^ ((1 : Int32) <<< (p0 &&& 31))) fun s23 =>
    some (s23, 1)))
def sX2_brick (s0 : St) (this : Nat) (p0 : Int32) : Option (St × Int32) :=
    kd s0 this 7 <|
    bp (sX2_good s0 this) fun s2 =>
    kd s2 this 7 <|
    bd (sX2_becomes s2 this p0 1) fun s5 v6 =>
    ok (okZ v6) <|
    some (s5, v6)
def sX1_open (s0 : St) (this : Nat) (p0 : Int32) : Option (St × Int32) :=
    kd s0 this 5 <|
    bd (sX1_bricksUp s0 this p0 0) fun s2 v3 =>
    ok (okZ v3) <|
    some (s2, v3)
def sX2_open (s0 : St) (this : Nat) (p0 : Int32) : Option (St × Int32) :=
    kd s0 this 7 <|
    bp (sX2_good s0 this) fun s2 =>
    kd s2 this 7 <|
    bd (sX2_becomes s2 this p0 0) fun s5 v6 =>
    ok (okZ v6) <|
    some (s5, v6)
def sX1_hire (s0 : St) (this : Nat) (p0 : Int32) (p1 : Int32) : Option (St × Int32) :=
    kd s0 this 5 <|
    bp (sX1_isPerson s0 this p0) fun v2 =>
    if v2 = 0 then
    (kd s0 this 5 <|
    bd (sX1_refused s0 this 1) fun s5 v6 =>
    some (s5, v6))
    else
    (kd s0 this 5 <|
    bp (sX1_isPlace s0 this p1) fun v9 =>
    if v9 = 0 then
    (kd s0 this 5 <|
    bd (sX1_refused s0 this 1) fun s12 v13 =>
    some (s12, v13))
    else
    (gR s0 1001 (some this) fun v15 =>
    iv s0 10 v15 fun w16 =>
    bp (sX5_person s0 w16 p0) fun v19 =>
    gI s0 69 v19 fun v21 =>
    if v21 = (-2) then
    (kd s0 this 5 <|
    bd (sX1_refused s0 this 5) fun s23 v24 =>
    some (s23, v24))
    else
    (gR s0 1002 (some this) fun v26 =>
    gR s0 1036 v26 fun v27 =>
    lI s0 2 v27 p0 fun v28 =>
    if v28 = p1 then
    (kd s0 this 5 <|
    bd (sX1_refused s0 this 5) fun s30 v31 =>
    some (s30, v31))
    else
    (kd s0 this 5 <|
    bp (sX1_remembers s0 this) fun s34 =>
    gR s34 1002 (some this) fun v36 =>
    gR s34 1036 v36 fun v37 =>
    tB s34 v37 p0 ((Int32.toInt8 p1).toInt32) fun s38 =>
    gR s38 1002 (some this) fun v39 =>
    gI s38 78 v39 fun v40 =>
    pI s38 78 v39 (v40 + v21) fun s41 =>
    kd s41 this 5 <|
    bd (sX1_well s41 this v21) fun s43 v44 =>
    some (s43, v44)))))
def sX2_hire (s0 : St) (this : Nat) (p0 : Int32) (p1 : Int32) : Option (St × Int32) :=
    kd s0 this 7 <|
    bp (sX2_good s0 this) fun s2 =>
    kd s2 this 7 <|
    bp (sX2_isPerson s2 this p0) fun v5 =>
    if v5 = 0 then
    (kd s2 this 7 <|
    bd (sX2_no s2 this 1) fun s8 v9 =>
    some (s8, v9))
    else
    (kd s2 this 7 <|
    bp (sX2_isPlace s2 this p1) fun v12 =>
    if v12 = 0 then
    (kd s2 this 7 <|
    bd (sX2_no s2 this 1) fun s15 v16 =>
    some (s15, v16))
    else
    (kd s2 this 7 <|
    bp (sX2_canHire s2 this p0) fun v19 =>
    if v19 = 0 then
    (kd s2 this 7 <|
    bd (sX2_no s2 this 5) fun s22 v23 =>
    some (s22, v23))
    else
    (gR s2 1013 (some this) fun v25 =>
    lI s2 1 v25 p0 fun v26 =>
    if v26 = (p1 + 1) then
    (kd s2 this 7 <|
    bd (sX2_no s2 this 5) fun s28 v29 =>
    some (s28, v29))
    else
    (kd s2 this 7 <|
    bp (sX2_note s2 this) fun s32 =>
    gR s32 1013 (some this) fun v34 =>
    tI s32 v34 p0 (p1 + 1) fun s35 =>
    gR s35 1013 (some this) fun v36 =>
    lI s35 1 v36 7 fun v37 =>
    gR s35 1011 (some this) fun v38 =>
    lI s35 1 v38 ((26 + (4 * p0)) + 3) fun v39 =>
    tI s35 v36 7 (v37 + (v39 - 1)) fun s40 =>
    gR s40 1011 (some this) fun v41 =>
    lI s40 1 v41 ((26 + (4 * p0)) + 3) fun v42 =>
    some (s40, (v42 - 1))))))
def sX1_dismiss (s0 : St) (this : Nat) (p0 : Int32) : Option (St × Int32) :=
    kd s0 this 5 <|
    bp (sX1_isPerson s0 this p0) fun v2 =>
    if v2 = 0 then
    (kd s0 this 5 <|
    bd (sX1_denied s0 this 1) fun s5 v6 =>
    ok (okZ v6) <|
    some (s5, v6))
    else
    (gR s0 1002 (some this) fun v9 =>
    gR s0 1036 v9 fun v10 =>
    lI s0 2 v10 p0 fun v11 =>
    if v11 = (-2) then
    (kd s0 this 5 <|
    bd (sX1_denied s0 this 5) fun s13 v14 =>
    ok (okZ v14) <|
    some (s13, v14))
    else
    (kd s0 this 5 <|
    bp (sX1_remembers s0 this) fun s18 =>
    gR s18 1002 (some this) fun v20 =>
    gR s18 1036 v20 fun v21 =>
    tB s18 v21 p0 (-2) fun s22 =>
    kd s22 this 5 <|
    bd (sX1_granted s22 this) fun s24 v25 =>
    ok (okZ v25) <|
    some (s24, v25)))
def sX2_dismiss (s0 : St) (this : Nat) (p0 : Int32) : Option (St × Int32) :=
    kd s0 this 7 <|
    bp (sX2_good s0 this) fun s2 =>
    kd s2 this 7 <|
    bp (sX2_isPerson s2 this p0) fun v5 =>
    if v5 = 0 then
    (kd s2 this 7 <|
    bd (sX2_isNot s2 this 1) fun s8 v9 =>
    ok (okZ v9) <|
    some (s8, v9))
    else
    (gR s2 1013 (some this) fun v12 =>
    lI s2 1 v12 p0 fun v13 =>
    if v13 = 0 then
    (kd s2 this 7 <|
    bd (sX2_isNot s2 this 5) fun s15 v16 =>
    ok (okZ v16) <|
    some (s15, v16))
    else
    (kd s2 this 7 <|
    bp (sX2_note s2 this) fun s20 =>
    gR s20 1013 (some this) fun v22 =>
    tI s20 v22 p0 0 fun s23 =>
    some (s23, 1)))
def sX1_spent (s0 : St) (this : Nat) : Option (St × Int32) :=
    gR s0 1001 (some this) fun v1 =>
    if v1 = none then
    (kd s0 this 5 <|
    bd (sX1_refused s0 this 1) fun s3 v4 =>
    some (s3, v4))
    else
    (gR s0 1002 (some this) fun v6 =>
    gI s0 78 v6 fun v7 =>
    kd s0 this 5 <|
    bd (sX1_well s0 this v7) fun s9 v10 =>
    some (s9, v10))
def sX2_spent (s0 : St) (this : Nat) : Option (St × Int32) :=
    kd s0 this 7 <|
    bp (sX2_good s0 this) fun s2 =>
    gI s2 31 (some this) fun v4 =>
    if v4 = 0 then
    (kd s2 this 7 <|
    bd (sX2_no s2 this 1) fun s6 v7 =>
    some (s6, v7))
    else
    (gR s2 1013 (some this) fun v9 =>
    lI s2 1 v9 7 fun v10 =>
    some (s2, v10))
def sX1_undo (s0 : St) (this : Nat) : Option (St × Int32) :=
    gR s0 1004 (some this) fun v1 =>
    iv s0 6 v1 fun w2 =>
    bp (sJ2_isEmpty s0 w2) fun v5 =>
    if v5 = 0 then
    (gR s0 1004 (some this) fun v7 =>
    gR s0 1004 (some this) fun v8 =>
    iv s0 6 v8 fun w9 =>
    bp (sJ2_size s0 w9) fun v12 =>
    iv s0 6 v7 fun w14 =>
    bd (sJ2_remove s0 w14 (v12 - 1)) fun s17 v18 =>
    ck s17 [21] v18 <|
    pR s17 1002 (some this) v18 fun s21 =>
    kd s21 this 5 <|
    bd (sX1_granted s21 this) fun s23 v24 =>
    ok (okZ v24) <|
    some (s23, v24))
    else
    (kd s0 this 5 <|
    bd (sX1_denied s0 this 6) fun s28 v29 =>
    ok (okZ v29) <|
    some (s28, v29))
def sX2_undo (s0 : St) (this : Nat) : Option (St × Int32) :=
    kd s0 this 7 <|
    bp (sX2_good s0 this) fun s2 =>
    gI s2 32 (some this) fun v4 =>
    if v4 = 0 then
    (kd s2 this 7 <|
    bd (sX2_isNot s2 this 6) fun s6 v7 =>
    ok (okZ v7) <|
    some (s6, v7))
    else
    (gI s2 32 (some this) fun v10 =>
    pI s2 32 (some this) (v10 - 1) fun s11 =>
    gR s11 1014 (some this) fun v12 =>
    gI s11 32 (some this) fun v13 =>
    gR s11 1013 (some this) fun v14 =>
    bp (sX2_copy s11 v12 (8 * v13) v14 0 8) fun s15 =>
    some (s15, 1))
def sX1_image (s0 : St) (this : Nat) : Option (St × Int32) :=
    gR s0 1001 (some this) fun v1 =>
    if v1 = none then
    (kd s0 this 5 <|
    bd (sX1_refused s0 this 1) fun s3 v4 =>
    some (s3, v4))
    else
    (gR s0 1005 (some this) fun v6 =>
    iv s0 6 v6 fun w7 =>
    bp (sJ2_size s0 w7) fun v10 =>
    if v10 = 3 then
    (kd s0 this 5 <|
    bd (sX1_refused s0 this 3) fun s13 v14 =>
    some (s13, v14))
    else
    (gR s0 1005 (some this) fun v16 =>
    gR s0 1002 (some this) fun v17 =>
    iv s0 21 v17 fun w18 =>
    bd (sX14_copy s0 w18) fun s21 v22 =>
    iv s21 6 v16 fun w24 =>
    bd (sJ2_add s21 w24 v22) fun s27 v28 =>
    gR s27 1005 (some this) fun v30 =>
    iv s27 6 v30 fun w31 =>
    bp (sJ2_size s27 w31) fun v34 =>
    kd s27 this 5 <|
    bd (sX1_well s27 this (v34 - 1)) fun s37 v38 =>
    some (s37, v38)))
def sX2_image (s0 : St) (this : Nat) : Option (St × Int32) :=
    kd s0 this 7 <|
    bp (sX2_good s0 this) fun s2 =>
    gI s2 31 (some this) fun v4 =>
    if v4 = 0 then
    (kd s2 this 7 <|
    bd (sX2_no s2 this 1) fun s6 v7 =>
    some (s6, v7))
    else
    (gI s2 33 (some this) fun v9 =>
    if v9 = 3 then
    (kd s2 this 7 <|
    bd (sX2_no s2 this 3) fun s11 v12 =>
    some (s11, v12))
    else
    (gR s2 1013 (some this) fun v14 =>
    gR s2 1015 (some this) fun v15 =>
    gI s2 33 (some this) fun v16 =>
    bp (sX2_copy s2 v14 0 v15 (8 * v16) 8) fun s17 =>
    gI s17 33 (some this) fun v19 =>
    pI s17 33 (some this) (v19 + 1) fun s20 =>
    gI s20 33 (some this) fun v21 =>
    some (s20, (v21 - 1))))
def sX1_back (s0 : St) (this : Nat) (p0 : Int32) : Option (St × Int32) :=
    gR s0 1005 (some this) fun v1 =>
    iv s0 6 v1 fun w2 =>
    bp (sJ2_size s0 w2) fun v5 =>
    bp (sX1_in s0 p0 0 (v5 - 1)) fun v7 =>
    if v7 = 0 then
    (kd s0 this 5 <|
    bd (sX1_denied s0 this 1) fun s10 v11 =>
    ok (okZ v11) <|
    some (s10, v11))
    else
    (gR s0 1005 (some this) fun v14 =>
    iv s0 6 v14 fun w15 =>
    bp (sJ2_get s0 w15 p0) fun v18 =>
    ck s0 [21] v18 <|
    iv s0 21 v18 fun w21 =>
    bd (sX14_copy s0 w21) fun s24 v25 =>
    pR s24 1002 (some this) v25 fun s27 =>
    gR s27 1004 (some this) fun v28 =>
    iv s27 6 v28 fun w29 =>
    bp (sJ2_clear s27 w29) fun s32 =>
    kd s32 this 5 <|
    bd (sX1_granted s32 this) fun s35 v36 =>
    ok (okZ v36) <|
    some (s35, v36))
def sX2_back (s0 : St) (this : Nat) (p0 : Int32) : Option (St × Int32) :=
    kd s0 this 7 <|
    bp (sX2_good s0 this) fun s2 =>
    gI s2 33 (some this) fun v4 =>
    bp (sX2_in s2 p0 0 (v4 - 1)) fun v5 =>
    if v5 = 0 then
    (kd s2 this 7 <|
    bd (sX2_isNot s2 this 1) fun s8 v9 =>
    ok (okZ v9) <|
    some (s8, v9))
    else
    (gR s2 1015 (some this) fun v12 =>
    gR s2 1013 (some this) fun v13 =>
    bp (sX2_copy s2 v12 (8 * p0) v13 0 8) fun s14 =>
    pI s14 32 (some this) 0 fun s16 =>
    some (s16, 1))
def sX2_led_L4 (this : Nat) (i1 : Int32) : Nat → St → Int32 → Int32 → Option ((St × Int32) ⊕ (St))
  | 0, _, _, _ => none
  | n + 1, s1, v2, v3 =>
    gI s1 31 (some this) fun v5 =>
    if v5 = 0 then
    (some (.inr s1))
    else
    (gR s1 1011 (some this) fun v6 =>
    lI s1 1 v6 5 fun v7 =>
    if v7 ≤ v3 then
    (some (.inr s1))
    else
    (kd s1 this 7 <|
    bd (sX2_goOver s1 this v3) fun s9 v10 =>
    gI s9 34 (some this) fun v12 =>
    if v12 = (-2) then
    (if v2 = i1 then
    (pI s9 19 (some this) 0 fun s13 =>
    some (.inl (s13, v3)))
    else
    (sX2_led_L4 this i1 n s9 (v2 + 1) (v3 + 1)))
    else
    (sX2_led_L4 this i1 n s9 v2 (v3 + 1))))
def sX2_led (s0 : St) (this : Nat) (p0 : Int32) : Option (St × Int32) :=
    lc (sX2_led_L4 this p0 FU s0 0 0) fun (s14 : St) =>
    pI s14 19 (some this) 1 fun s15 =>
    some (s15, 0)
def sX2_thrown (s0 : St) (this : Nat) : Option Int32 :=
    gI s0 19 (some this) fun v1 =>
    some v1
def sX1_size (s0 : St) (this : Nat) (p0 : Int32) : Option Int32 :=
    if p0 = 11 then
    (gI s0 0 (some this) fun v1 =>
    some v1)
    else
    (bp (sX1_in s0 p0 0 10) fun v2 =>
    if v2 = 0 then
    (some (-1))
    else
    (gR s0 1001 (some this) fun v4 =>
    if v4 = none then
    (some 0)
    else
    (if p0 = 0 then
    (gR s0 1001 (some this) fun v5 =>
    gI s0 49 v5 fun v6 =>
    some v6)
    else
    (if p0 = 1 then
    (kd s0 this 5 <|
    bp (sX1_places s0 this) fun v10 =>
    some v10)
    else
    (if p0 = 2 then
    (kd s0 this 5 <|
    bp (sX1_sights s0 this) fun v15 =>
    some v15)
    else
    (if p0 = 3 then
    (kd s0 this 5 <|
    bp (sX1_people s0 this) fun v20 =>
    some v20)
    else
    (if p0 = 4 then
    (gR s0 1001 (some this) fun v24 =>
    gI s0 50 v24 fun v25 =>
    some v25)
    else
    (if p0 = 5 then
    (kd s0 this 5 <|
    bp (sX1_quarrels s0 this) fun v29 =>
    some v29)
    else
    (if p0 = 6 then
    (gR s0 1001 (some this) fun v33 =>
    gI s0 51 v33 fun v34 =>
    some v34)
    else
    (if p0 = 7 then
    (gR s0 1001 (some this) fun v37 =>
    gI s0 52 v37 fun v38 =>
    some v38)
    else
    (if p0 = 8 then
    (gR s0 1001 (some this) fun v41 =>
    gI s0 53 v41 fun v42 =>
    some v42)
    else
    (if p0 = 9 then
    (gR s0 1004 (some this) fun v45 =>
    iv s0 6 v45 fun w46 =>
    bp (sJ2_size s0 w46) fun v49 =>
    some v49)
    else
    (gR s0 1005 (some this) fun v53 =>
    iv s0 6 v53 fun w54 =>
    bp (sJ2_size s0 w54) fun v57 =>
    some v57)))))))))))))
def sX2_size (s0 : St) (this : Nat) (p0 : Int32) : Option (St × Int32) :=
    pI s0 19 (some this) 0 fun s1 =>
    if p0 = 11 then
    (gI s1 20 (some this) fun v2 =>
    some (s1, v2))
    else
    (gI s1 31 (some this) fun v3 =>
    if v3 = 0 then
    (bp (sX2_in s1 p0 0 10) fun v4 =>
    if v4 = 0 then
    (some (s1, (-1)))
    else
    (some (s1, 0)))
    else
    (bp (sX2_in s1 p0 0 8) fun v6 =>
    if v6 = 0 then
    (if p0 = 9 then
    (gI s1 32 (some this) fun v8 =>
    some (s1, v8))
    else
    (if p0 = 10 then
    (gI s1 33 (some this) fun v9 =>
    some (s1, v9))
    else
    (some (s1, (-1)))))
    else
    (gR s1 1011 (some this) fun v10 =>
    lI s1 1 v10 p0 fun v11 =>
    some (s1, v11))))
def sX1_trouble (s0 : St) (this : Nat) : Option Int32 :=
    gI s0 3 (some this) fun v1 =>
    some v1
def sX2_trouble (s0 : St) (this : Nat) : Option (St × Int32) :=
    pI s0 19 (some this) 0 fun s1 =>
    gI s1 29 (some this) fun v2 =>
    some (s1, v2)
