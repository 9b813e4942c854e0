/-! READS AND WRITES of fields, by the kind of the object (by gen/xlem.py) -/
set_option maxRecDepth 100000
section
variable {σ : St} {a : Nat} {α : Type}
theorem gI_ob {F c : Nat} (h : σ.ob a = c) (hF : hasF fidT F c = true) (k : Int32 → Option α) : gI σ F (some a) k = k (σ.fi F a) := by
  show (if hasF fidT F (σ.ob a) then _ else none) = _
  rw [h, hF]; rfl
theorem gR_ob {F c : Nat} (h : σ.ob a = c) (hF : hasF fidT F c = true) (k : Option Nat → Option α) : gR σ F (some a) k = k (σ.fr F a) := by
  show (if hasF fidT F (σ.ob a) then _ else none) = _
  rw [h, hF]; rfl
theorem pI_ob {F c : Nat} (h : σ.ob a = c) (hF : hasF fidT F c = true) (hl : σ.lo ≤ a) (v : Int32) (k : St → Option α) : pI σ F (some a) v k = k (σ.sI F a v) := by
  show (if hasF fidT F (σ.ob a) && decide (σ.lo ≤ a) then _ else none) = _
  rw [h, hF, decide_eq_true hl]; rfl
theorem pR_ob {F c : Nat} (h : σ.ob a = c) (hF : hasF fidT F c = true) (hl : σ.lo ≤ a) (v : Option Nat) (k : St → Option α) : pR σ F (some a) v k = k (σ.sR F a v) := by
  show (if hasF fidT F (σ.ob a) && decide (σ.lo ≤ a) then _ else none) = _
  rw [h, hF, decide_eq_true hl]; rfl
theorem kd_ob {c : Nat} (h : σ.ob a = c) (k : Option α) : kd σ a c k = k := if_pos h
theorem iv_ob {c : Nat} (h : σ.ob a = c) (k : Nat → Option α) : iv σ c (some a) k = k a := by
  show (if decide (σ.ob a = c) then _ else none) = _
  rw [decide_eq_true h]; rfl
theorem ck_ob {c : Nat} {cs : List Nat} (h : σ.ob a = c) (hc : cs.contains c = true) (k : Option α) : ck σ cs (some a) k = k := by
  show (if cs.contains (σ.ob a) then _ else none) = _
  rw [h, hc]; rfl
theorem aN_ob {c : Nat} (h : σ.ob a = c) (h1 : 1 ≤ c) (h2 : c ≤ 4) (k : Int32 → Option α) : aN σ (some a) k = k (nI (σ.ln a)) := by
  show (if decide (1 ≤ σ.ob a) && decide (σ.ob a ≤ 4) then _ else none) = _
  rw [h, decide_eq_true h1, decide_eq_true h2]; rfl
theorem g1000_5 (h : σ.ob a = 5) (k : Option Nat → Option α) : gR σ 1000 (some a) k = k (σ.fr 1000 a) := gR_ob h rfl k
theorem p1000_5 (h : σ.ob a = 5) (hl : σ.lo ≤ a) (v : Option Nat) (k : St → Option α) : pR σ 1000 (some a) v k = k (σ.sR 1000 a v) := pR_ob h rfl hl v k
theorem g0_5 (h : σ.ob a = 5) (k : Int32 → Option α) : gI σ 0 (some a) k = k (σ.fi 0 a) := gI_ob h rfl k
theorem p0_5 (h : σ.ob a = 5) (hl : σ.lo ≤ a) (v : Int32) (k : St → Option α) : pI σ 0 (some a) v k = k (σ.sI 0 a v) := pI_ob h rfl hl v k
theorem g1_5 (h : σ.ob a = 5) (k : Int32 → Option α) : gI σ 1 (some a) k = k (σ.fi 1 a) := gI_ob h rfl k
theorem p1_5 (h : σ.ob a = 5) (hl : σ.lo ≤ a) (v : Int32) (k : St → Option α) : pI σ 1 (some a) v k = k (σ.sI 1 a v) := pI_ob h rfl hl v k
theorem g2_5 (h : σ.ob a = 5) (k : Int32 → Option α) : gI σ 2 (some a) k = k (σ.fi 2 a) := gI_ob h rfl k
theorem p2_5 (h : σ.ob a = 5) (hl : σ.lo ≤ a) (v : Int32) (k : St → Option α) : pI σ 2 (some a) v k = k (σ.sI 2 a v) := pI_ob h rfl hl v k
theorem g3_5 (h : σ.ob a = 5) (k : Int32 → Option α) : gI σ 3 (some a) k = k (σ.fi 3 a) := gI_ob h rfl k
theorem p3_5 (h : σ.ob a = 5) (hl : σ.lo ≤ a) (v : Int32) (k : St → Option α) : pI σ 3 (some a) v k = k (σ.sI 3 a v) := pI_ob h rfl hl v k
theorem g1001_5 (h : σ.ob a = 5) (k : Option Nat → Option α) : gR σ 1001 (some a) k = k (σ.fr 1001 a) := gR_ob h rfl k
theorem p1001_5 (h : σ.ob a = 5) (hl : σ.lo ≤ a) (v : Option Nat) (k : St → Option α) : pR σ 1001 (some a) v k = k (σ.sR 1001 a v) := pR_ob h rfl hl v k
theorem g1002_5 (h : σ.ob a = 5) (k : Option Nat → Option α) : gR σ 1002 (some a) k = k (σ.fr 1002 a) := gR_ob h rfl k
theorem p1002_5 (h : σ.ob a = 5) (hl : σ.lo ≤ a) (v : Option Nat) (k : St → Option α) : pR σ 1002 (some a) v k = k (σ.sR 1002 a v) := pR_ob h rfl hl v k
theorem g1003_5 (h : σ.ob a = 5) (k : Option Nat → Option α) : gR σ 1003 (some a) k = k (σ.fr 1003 a) := gR_ob h rfl k
theorem p1003_5 (h : σ.ob a = 5) (hl : σ.lo ≤ a) (v : Option Nat) (k : St → Option α) : pR σ 1003 (some a) v k = k (σ.sR 1003 a v) := pR_ob h rfl hl v k
theorem g1004_5 (h : σ.ob a = 5) (k : Option Nat → Option α) : gR σ 1004 (some a) k = k (σ.fr 1004 a) := gR_ob h rfl k
theorem p1004_5 (h : σ.ob a = 5) (hl : σ.lo ≤ a) (v : Option Nat) (k : St → Option α) : pR σ 1004 (some a) v k = k (σ.sR 1004 a v) := pR_ob h rfl hl v k
theorem g1005_5 (h : σ.ob a = 5) (k : Option Nat → Option α) : gR σ 1005 (some a) k = k (σ.fr 1005 a) := gR_ob h rfl k
theorem p1005_5 (h : σ.ob a = 5) (hl : σ.lo ≤ a) (v : Option Nat) (k : St → Option α) : pR σ 1005 (some a) v k = k (σ.sR 1005 a v) := pR_ob h rfl hl v k
theorem g4_5 (h : σ.ob a = 5) (k : Int32 → Option α) : gI σ 4 (some a) k = k (σ.fi 4 a) := gI_ob h rfl k
theorem p4_5 (h : σ.ob a = 5) (hl : σ.lo ≤ a) (v : Int32) (k : St → Option α) : pI σ 4 (some a) v k = k (σ.sI 4 a v) := pI_ob h rfl hl v k
theorem g5_5 (h : σ.ob a = 5) (k : Int32 → Option α) : gI σ 5 (some a) k = k (σ.fi 5 a) := gI_ob h rfl k
theorem p5_5 (h : σ.ob a = 5) (hl : σ.lo ≤ a) (v : Int32) (k : St → Option α) : pI σ 5 (some a) v k = k (σ.sI 5 a v) := pI_ob h rfl hl v k
theorem g6_5 (h : σ.ob a = 5) (k : Int32 → Option α) : gI σ 6 (some a) k = k (σ.fi 6 a) := gI_ob h rfl k
theorem p6_5 (h : σ.ob a = 5) (hl : σ.lo ≤ a) (v : Int32) (k : St → Option α) : pI σ 6 (some a) v k = k (σ.sI 6 a v) := pI_ob h rfl hl v k
theorem g7_5 (h : σ.ob a = 5) (k : Int32 → Option α) : gI σ 7 (some a) k = k (σ.fi 7 a) := gI_ob h rfl k
theorem p7_5 (h : σ.ob a = 5) (hl : σ.lo ≤ a) (v : Int32) (k : St → Option α) : pI σ 7 (some a) v k = k (σ.sI 7 a v) := pI_ob h rfl hl v k
theorem g8_5 (h : σ.ob a = 5) (k : Int32 → Option α) : gI σ 8 (some a) k = k (σ.fi 8 a) := gI_ob h rfl k
theorem p8_5 (h : σ.ob a = 5) (hl : σ.lo ≤ a) (v : Int32) (k : St → Option α) : pI σ 8 (some a) v k = k (σ.sI 8 a v) := pI_ob h rfl hl v k
theorem g9_5 (h : σ.ob a = 5) (k : Int32 → Option α) : gI σ 9 (some a) k = k (σ.fi 9 a) := gI_ob h rfl k
theorem p9_5 (h : σ.ob a = 5) (hl : σ.lo ≤ a) (v : Int32) (k : St → Option α) : pI σ 9 (some a) v k = k (σ.sI 9 a v) := pI_ob h rfl hl v k
theorem g10_5 (h : σ.ob a = 5) (k : Int32 → Option α) : gI σ 10 (some a) k = k (σ.fi 10 a) := gI_ob h rfl k
theorem p10_5 (h : σ.ob a = 5) (hl : σ.lo ≤ a) (v : Int32) (k : St → Option α) : pI σ 10 (some a) v k = k (σ.sI 10 a v) := pI_ob h rfl hl v k
theorem g11_5 (h : σ.ob a = 5) (k : Int32 → Option α) : gI σ 11 (some a) k = k (σ.fi 11 a) := gI_ob h rfl k
theorem p11_5 (h : σ.ob a = 5) (hl : σ.lo ≤ a) (v : Int32) (k : St → Option α) : pI σ 11 (some a) v k = k (σ.sI 11 a v) := pI_ob h rfl hl v k
theorem g12_5 (h : σ.ob a = 5) (k : Int32 → Option α) : gI σ 12 (some a) k = k (σ.fi 12 a) := gI_ob h rfl k
theorem p12_5 (h : σ.ob a = 5) (hl : σ.lo ≤ a) (v : Int32) (k : St → Option α) : pI σ 12 (some a) v k = k (σ.sI 12 a v) := pI_ob h rfl hl v k
theorem g13_5 (h : σ.ob a = 5) (k : Int32 → Option α) : gI σ 13 (some a) k = k (σ.fi 13 a) := gI_ob h rfl k
theorem p13_5 (h : σ.ob a = 5) (hl : σ.lo ≤ a) (v : Int32) (k : St → Option α) : pI σ 13 (some a) v k = k (σ.sI 13 a v) := pI_ob h rfl hl v k
theorem g14_5 (h : σ.ob a = 5) (k : Int32 → Option α) : gI σ 14 (some a) k = k (σ.fi 14 a) := gI_ob h rfl k
theorem p14_5 (h : σ.ob a = 5) (hl : σ.lo ≤ a) (v : Int32) (k : St → Option α) : pI σ 14 (some a) v k = k (σ.sI 14 a v) := pI_ob h rfl hl v k
theorem g15_5 (h : σ.ob a = 5) (k : Int32 → Option α) : gI σ 15 (some a) k = k (σ.fi 15 a) := gI_ob h rfl k
theorem p15_5 (h : σ.ob a = 5) (hl : σ.lo ≤ a) (v : Int32) (k : St → Option α) : pI σ 15 (some a) v k = k (σ.sI 15 a v) := pI_ob h rfl hl v k
theorem g1006_5 (h : σ.ob a = 5) (k : Option Nat → Option α) : gR σ 1006 (some a) k = k (σ.fr 1006 a) := gR_ob h rfl k
theorem p1006_5 (h : σ.ob a = 5) (hl : σ.lo ≤ a) (v : Option Nat) (k : St → Option α) : pR σ 1006 (some a) v k = k (σ.sR 1006 a v) := pR_ob h rfl hl v k
theorem g16_5 (h : σ.ob a = 5) (k : Int32 → Option α) : gI σ 16 (some a) k = k (σ.fi 16 a) := gI_ob h rfl k
theorem p16_5 (h : σ.ob a = 5) (hl : σ.lo ≤ a) (v : Int32) (k : St → Option α) : pI σ 16 (some a) v k = k (σ.sI 16 a v) := pI_ob h rfl hl v k
theorem g1007_5 (h : σ.ob a = 5) (k : Option Nat → Option α) : gR σ 1007 (some a) k = k (σ.fr 1007 a) := gR_ob h rfl k
theorem p1007_5 (h : σ.ob a = 5) (hl : σ.lo ≤ a) (v : Option Nat) (k : St → Option α) : pR σ 1007 (some a) v k = k (σ.sR 1007 a v) := pR_ob h rfl hl v k
theorem g17_6 (h : σ.ob a = 6) (k : Int32 → Option α) : gI σ 17 (some a) k = k (σ.fi 17 a) := gI_ob h rfl k
theorem p17_6 (h : σ.ob a = 6) (hl : σ.lo ≤ a) (v : Int32) (k : St → Option α) : pI σ 17 (some a) v k = k (σ.sI 17 a v) := pI_ob h rfl hl v k
theorem g1008_6 (h : σ.ob a = 6) (k : Option Nat → Option α) : gR σ 1008 (some a) k = k (σ.fr 1008 a) := gR_ob h rfl k
theorem p1008_6 (h : σ.ob a = 6) (hl : σ.lo ≤ a) (v : Option Nat) (k : St → Option α) : pR σ 1008 (some a) v k = k (σ.sR 1008 a v) := pR_ob h rfl hl v k
theorem g18_6 (h : σ.ob a = 6) (k : Int32 → Option α) : gI σ 18 (some a) k = k (σ.fi 18 a) := gI_ob h rfl k
theorem p18_6 (h : σ.ob a = 6) (hl : σ.lo ≤ a) (v : Int32) (k : St → Option α) : pI σ 18 (some a) v k = k (σ.sI 18 a v) := pI_ob h rfl hl v k
theorem g1020_8 (h : σ.ob a = 8) (k : Option Nat → Option α) : gR σ 1020 (some a) k = k (σ.fr 1020 a) := gR_ob h rfl k
theorem p1020_8 (h : σ.ob a = 8) (hl : σ.lo ≤ a) (v : Option Nat) (k : St → Option α) : pR σ 1020 (some a) v k = k (σ.sR 1020 a v) := pR_ob h rfl hl v k
theorem g1021_8 (h : σ.ob a = 8) (k : Option Nat → Option α) : gR σ 1021 (some a) k = k (σ.fr 1021 a) := gR_ob h rfl k
theorem p1021_8 (h : σ.ob a = 8) (hl : σ.lo ≤ a) (v : Option Nat) (k : St → Option α) : pR σ 1021 (some a) v k = k (σ.sR 1021 a v) := pR_ob h rfl hl v k
theorem g1022_8 (h : σ.ob a = 8) (k : Option Nat → Option α) : gR σ 1022 (some a) k = k (σ.fr 1022 a) := gR_ob h rfl k
theorem p1022_8 (h : σ.ob a = 8) (hl : σ.lo ≤ a) (v : Option Nat) (k : St → Option α) : pR σ 1022 (some a) v k = k (σ.sR 1022 a v) := pR_ob h rfl hl v k
theorem g45_8 (h : σ.ob a = 8) (k : Int32 → Option α) : gI σ 45 (some a) k = k (σ.fi 45 a) := gI_ob h rfl k
theorem p45_8 (h : σ.ob a = 8) (hl : σ.lo ≤ a) (v : Int32) (k : St → Option α) : pI σ 45 (some a) v k = k (σ.sI 45 a v) := pI_ob h rfl hl v k
theorem g46_8 (h : σ.ob a = 8) (k : Int32 → Option α) : gI σ 46 (some a) k = k (σ.fi 46 a) := gI_ob h rfl k
theorem p46_8 (h : σ.ob a = 8) (hl : σ.lo ≤ a) (v : Int32) (k : St → Option α) : pI σ 46 (some a) v k = k (σ.sI 46 a v) := pI_ob h rfl hl v k
theorem g1023_9 (h : σ.ob a = 9) (k : Option Nat → Option α) : gR σ 1023 (some a) k = k (σ.fr 1023 a) := gR_ob h rfl k
theorem p1023_9 (h : σ.ob a = 9) (hl : σ.lo ≤ a) (v : Option Nat) (k : St → Option α) : pR σ 1023 (some a) v k = k (σ.sR 1023 a v) := pR_ob h rfl hl v k
theorem g47_9 (h : σ.ob a = 9) (k : Int32 → Option α) : gI σ 47 (some a) k = k (σ.fi 47 a) := gI_ob h rfl k
theorem p47_9 (h : σ.ob a = 9) (hl : σ.lo ≤ a) (v : Int32) (k : St → Option α) : pI σ 47 (some a) v k = k (σ.sI 47 a v) := pI_ob h rfl hl v k
theorem g48_9 (h : σ.ob a = 9) (k : Int32 → Option α) : gI σ 48 (some a) k = k (σ.fi 48 a) := gI_ob h rfl k
theorem p48_9 (h : σ.ob a = 9) (hl : σ.lo ≤ a) (v : Int32) (k : St → Option α) : pI σ 48 (some a) v k = k (σ.sI 48 a v) := pI_ob h rfl hl v k
theorem g49_10 (h : σ.ob a = 10) (k : Int32 → Option α) : gI σ 49 (some a) k = k (σ.fi 49 a) := gI_ob h rfl k
theorem p49_10 (h : σ.ob a = 10) (hl : σ.lo ≤ a) (v : Int32) (k : St → Option α) : pI σ 49 (some a) v k = k (σ.sI 49 a v) := pI_ob h rfl hl v k
theorem g50_10 (h : σ.ob a = 10) (k : Int32 → Option α) : gI σ 50 (some a) k = k (σ.fi 50 a) := gI_ob h rfl k
theorem p50_10 (h : σ.ob a = 10) (hl : σ.lo ≤ a) (v : Int32) (k : St → Option α) : pI σ 50 (some a) v k = k (σ.sI 50 a v) := pI_ob h rfl hl v k
theorem g51_10 (h : σ.ob a = 10) (k : Int32 → Option α) : gI σ 51 (some a) k = k (σ.fi 51 a) := gI_ob h rfl k
theorem p51_10 (h : σ.ob a = 10) (hl : σ.lo ≤ a) (v : Int32) (k : St → Option α) : pI σ 51 (some a) v k = k (σ.sI 51 a v) := pI_ob h rfl hl v k
theorem g52_10 (h : σ.ob a = 10) (k : Int32 → Option α) : gI σ 52 (some a) k = k (σ.fi 52 a) := gI_ob h rfl k
theorem p52_10 (h : σ.ob a = 10) (hl : σ.lo ≤ a) (v : Int32) (k : St → Option α) : pI σ 52 (some a) v k = k (σ.sI 52 a v) := pI_ob h rfl hl v k
theorem g53_10 (h : σ.ob a = 10) (k : Int32 → Option α) : gI σ 53 (some a) k = k (σ.fi 53 a) := gI_ob h rfl k
theorem p53_10 (h : σ.ob a = 10) (hl : σ.lo ≤ a) (v : Int32) (k : St → Option α) : pI σ 53 (some a) v k = k (σ.sI 53 a v) := pI_ob h rfl hl v k
theorem g1024_10 (h : σ.ob a = 10) (k : Option Nat → Option α) : gR σ 1024 (some a) k = k (σ.fr 1024 a) := gR_ob h rfl k
theorem p1024_10 (h : σ.ob a = 10) (hl : σ.lo ≤ a) (v : Option Nat) (k : St → Option α) : pR σ 1024 (some a) v k = k (σ.sR 1024 a v) := pR_ob h rfl hl v k
theorem g1025_10 (h : σ.ob a = 10) (k : Option Nat → Option α) : gR σ 1025 (some a) k = k (σ.fr 1025 a) := gR_ob h rfl k
theorem p1025_10 (h : σ.ob a = 10) (hl : σ.lo ≤ a) (v : Option Nat) (k : St → Option α) : pR σ 1025 (some a) v k = k (σ.sR 1025 a v) := pR_ob h rfl hl v k
theorem g1026_10 (h : σ.ob a = 10) (k : Option Nat → Option α) : gR σ 1026 (some a) k = k (σ.fr 1026 a) := gR_ob h rfl k
theorem p1026_10 (h : σ.ob a = 10) (hl : σ.lo ≤ a) (v : Option Nat) (k : St → Option α) : pR σ 1026 (some a) v k = k (σ.sR 1026 a v) := pR_ob h rfl hl v k
theorem g1027_10 (h : σ.ob a = 10) (k : Option Nat → Option α) : gR σ 1027 (some a) k = k (σ.fr 1027 a) := gR_ob h rfl k
theorem p1027_10 (h : σ.ob a = 10) (hl : σ.lo ≤ a) (v : Option Nat) (k : St → Option α) : pR σ 1027 (some a) v k = k (σ.sR 1027 a v) := pR_ob h rfl hl v k
theorem g1028_10 (h : σ.ob a = 10) (k : Option Nat → Option α) : gR σ 1028 (some a) k = k (σ.fr 1028 a) := gR_ob h rfl k
theorem p1028_10 (h : σ.ob a = 10) (hl : σ.lo ≤ a) (v : Option Nat) (k : St → Option α) : pR σ 1028 (some a) v k = k (σ.sR 1028 a v) := pR_ob h rfl hl v k
theorem g54_11 (h : σ.ob a = 11) (k : Int32 → Option α) : gI σ 54 (some a) k = k (σ.fi 54 a) := gI_ob h rfl k
theorem p54_11 (h : σ.ob a = 11) (hl : σ.lo ≤ a) (v : Int32) (k : St → Option α) : pI σ 54 (some a) v k = k (σ.sI 54 a v) := pI_ob h rfl hl v k
theorem g55_11 (h : σ.ob a = 11) (k : Int32 → Option α) : gI σ 55 (some a) k = k (σ.fi 55 a) := gI_ob h rfl k
theorem p55_11 (h : σ.ob a = 11) (hl : σ.lo ≤ a) (v : Int32) (k : St → Option α) : pI σ 55 (some a) v k = k (σ.sI 55 a v) := pI_ob h rfl hl v k
theorem g56_11 (h : σ.ob a = 11) (k : Int32 → Option α) : gI σ 56 (some a) k = k (σ.fi 56 a) := gI_ob h rfl k
theorem p56_11 (h : σ.ob a = 11) (hl : σ.lo ≤ a) (v : Int32) (k : St → Option α) : pI σ 56 (some a) v k = k (σ.sI 56 a v) := pI_ob h rfl hl v k
theorem g1029_11 (h : σ.ob a = 11) (k : Option Nat → Option α) : gR σ 1029 (some a) k = k (σ.fr 1029 a) := gR_ob h rfl k
theorem p1029_11 (h : σ.ob a = 11) (hl : σ.lo ≤ a) (v : Option Nat) (k : St → Option α) : pR σ 1029 (some a) v k = k (σ.sR 1029 a v) := pR_ob h rfl hl v k
theorem g1030_12 (h : σ.ob a = 12) (k : Option Nat → Option α) : gR σ 1030 (some a) k = k (σ.fr 1030 a) := gR_ob h rfl k
theorem p1030_12 (h : σ.ob a = 12) (hl : σ.lo ≤ a) (v : Option Nat) (k : St → Option α) : pR σ 1030 (some a) v k = k (σ.sR 1030 a v) := pR_ob h rfl hl v k
theorem g57_12 (h : σ.ob a = 12) (k : Int32 → Option α) : gI σ 57 (some a) k = k (σ.fi 57 a) := gI_ob h rfl k
theorem p57_12 (h : σ.ob a = 12) (hl : σ.lo ≤ a) (v : Int32) (k : St → Option α) : pI σ 57 (some a) v k = k (σ.sI 57 a v) := pI_ob h rfl hl v k
theorem g58_12 (h : σ.ob a = 12) (k : Int32 → Option α) : gI σ 58 (some a) k = k (σ.fi 58 a) := gI_ob h rfl k
theorem p58_12 (h : σ.ob a = 12) (hl : σ.lo ≤ a) (v : Int32) (k : St → Option α) : pI σ 58 (some a) v k = k (σ.sI 58 a v) := pI_ob h rfl hl v k
theorem g59_12 (h : σ.ob a = 12) (k : Int32 → Option α) : gI σ 59 (some a) k = k (σ.fi 59 a) := gI_ob h rfl k
theorem p59_12 (h : σ.ob a = 12) (hl : σ.lo ≤ a) (v : Int32) (k : St → Option α) : pI σ 59 (some a) v k = k (σ.sI 59 a v) := pI_ob h rfl hl v k
theorem g1031_13 (h : σ.ob a = 13) (k : Option Nat → Option α) : gR σ 1031 (some a) k = k (σ.fr 1031 a) := gR_ob h rfl k
theorem p1031_13 (h : σ.ob a = 13) (hl : σ.lo ≤ a) (v : Option Nat) (k : St → Option α) : pR σ 1031 (some a) v k = k (σ.sR 1031 a v) := pR_ob h rfl hl v k
theorem g60_13 (h : σ.ob a = 13) (k : Int32 → Option α) : gI σ 60 (some a) k = k (σ.fi 60 a) := gI_ob h rfl k
theorem p60_13 (h : σ.ob a = 13) (hl : σ.lo ≤ a) (v : Int32) (k : St → Option α) : pI σ 60 (some a) v k = k (σ.sI 60 a v) := pI_ob h rfl hl v k
theorem g61_13 (h : σ.ob a = 13) (k : Int32 → Option α) : gI σ 61 (some a) k = k (σ.fi 61 a) := gI_ob h rfl k
theorem p61_13 (h : σ.ob a = 13) (hl : σ.lo ≤ a) (v : Int32) (k : St → Option α) : pI σ 61 (some a) v k = k (σ.sI 61 a v) := pI_ob h rfl hl v k
theorem g62_13 (h : σ.ob a = 13) (k : Int32 → Option α) : gI σ 62 (some a) k = k (σ.fi 62 a) := gI_ob h rfl k
theorem p62_13 (h : σ.ob a = 13) (hl : σ.lo ≤ a) (v : Int32) (k : St → Option α) : pI σ 62 (some a) v k = k (σ.sI 62 a v) := pI_ob h rfl hl v k
theorem g1032_14 (h : σ.ob a = 14) (k : Option Nat → Option α) : gR σ 1032 (some a) k = k (σ.fr 1032 a) := gR_ob h rfl k
theorem p1032_14 (h : σ.ob a = 14) (hl : σ.lo ≤ a) (v : Option Nat) (k : St → Option α) : pR σ 1032 (some a) v k = k (σ.sR 1032 a v) := pR_ob h rfl hl v k
theorem g63_15 (h : σ.ob a = 15) (k : Int32 → Option α) : gI σ 63 (some a) k = k (σ.fi 63 a) := gI_ob h rfl k
theorem p63_15 (h : σ.ob a = 15) (hl : σ.lo ≤ a) (v : Int32) (k : St → Option α) : pI σ 63 (some a) v k = k (σ.sI 63 a v) := pI_ob h rfl hl v k
theorem g64_15 (h : σ.ob a = 15) (k : Int32 → Option α) : gI σ 64 (some a) k = k (σ.fi 64 a) := gI_ob h rfl k
theorem p64_15 (h : σ.ob a = 15) (hl : σ.lo ≤ a) (v : Int32) (k : St → Option α) : pI σ 64 (some a) v k = k (σ.sI 64 a v) := pI_ob h rfl hl v k
theorem g1032_16 (h : σ.ob a = 16) (k : Option Nat → Option α) : gR σ 1032 (some a) k = k (σ.fr 1032 a) := gR_ob h rfl k
theorem p1032_16 (h : σ.ob a = 16) (hl : σ.lo ≤ a) (v : Option Nat) (k : St → Option α) : pR σ 1032 (some a) v k = k (σ.sR 1032 a v) := pR_ob h rfl hl v k
theorem g1033_16 (h : σ.ob a = 16) (k : Option Nat → Option α) : gR σ 1033 (some a) k = k (σ.fr 1033 a) := gR_ob h rfl k
theorem p1033_16 (h : σ.ob a = 16) (hl : σ.lo ≤ a) (v : Option Nat) (k : St → Option α) : pR σ 1033 (some a) v k = k (σ.sR 1033 a v) := pR_ob h rfl hl v k
theorem g1034_16 (h : σ.ob a = 16) (k : Option Nat → Option α) : gR σ 1034 (some a) k = k (σ.fr 1034 a) := gR_ob h rfl k
theorem p1034_16 (h : σ.ob a = 16) (hl : σ.lo ≤ a) (v : Option Nat) (k : St → Option α) : pR σ 1034 (some a) v k = k (σ.sR 1034 a v) := pR_ob h rfl hl v k
theorem g65_16 (h : σ.ob a = 16) (k : Int32 → Option α) : gI σ 65 (some a) k = k (σ.fi 65 a) := gI_ob h rfl k
theorem p65_16 (h : σ.ob a = 16) (hl : σ.lo ≤ a) (v : Int32) (k : St → Option α) : pI σ 65 (some a) v k = k (σ.sI 65 a v) := pI_ob h rfl hl v k
theorem g66_16 (h : σ.ob a = 16) (k : Int32 → Option α) : gI σ 66 (some a) k = k (σ.fi 66 a) := gI_ob h rfl k
theorem p66_16 (h : σ.ob a = 16) (hl : σ.lo ≤ a) (v : Int32) (k : St → Option α) : pI σ 66 (some a) v k = k (σ.sI 66 a v) := pI_ob h rfl hl v k
theorem g67_16 (h : σ.ob a = 16) (k : Int32 → Option α) : gI σ 67 (some a) k = k (σ.fi 67 a) := gI_ob h rfl k
theorem p67_16 (h : σ.ob a = 16) (hl : σ.lo ≤ a) (v : Int32) (k : St → Option α) : pI σ 67 (some a) v k = k (σ.sI 67 a v) := pI_ob h rfl hl v k
theorem g68_16 (h : σ.ob a = 16) (k : Int32 → Option α) : gI σ 68 (some a) k = k (σ.fi 68 a) := gI_ob h rfl k
theorem p68_16 (h : σ.ob a = 16) (hl : σ.lo ≤ a) (v : Int32) (k : St → Option α) : pI σ 68 (some a) v k = k (σ.sI 68 a v) := pI_ob h rfl hl v k
theorem g69_16 (h : σ.ob a = 16) (k : Int32 → Option α) : gI σ 69 (some a) k = k (σ.fi 69 a) := gI_ob h rfl k
theorem p69_16 (h : σ.ob a = 16) (hl : σ.lo ≤ a) (v : Int32) (k : St → Option α) : pI σ 69 (some a) v k = k (σ.sI 69 a v) := pI_ob h rfl hl v k
theorem g70_16 (h : σ.ob a = 16) (k : Int32 → Option α) : gI σ 70 (some a) k = k (σ.fi 70 a) := gI_ob h rfl k
theorem p70_16 (h : σ.ob a = 16) (hl : σ.lo ≤ a) (v : Int32) (k : St → Option α) : pI σ 70 (some a) v k = k (σ.sI 70 a v) := pI_ob h rfl hl v k
theorem g1032_17 (h : σ.ob a = 17) (k : Option Nat → Option α) : gR σ 1032 (some a) k = k (σ.fr 1032 a) := gR_ob h rfl k
theorem p1032_17 (h : σ.ob a = 17) (hl : σ.lo ≤ a) (v : Option Nat) (k : St → Option α) : pR σ 1032 (some a) v k = k (σ.sR 1032 a v) := pR_ob h rfl hl v k
theorem g1033_17 (h : σ.ob a = 17) (k : Option Nat → Option α) : gR σ 1033 (some a) k = k (σ.fr 1033 a) := gR_ob h rfl k
theorem p1033_17 (h : σ.ob a = 17) (hl : σ.lo ≤ a) (v : Option Nat) (k : St → Option α) : pR σ 1033 (some a) v k = k (σ.sR 1033 a v) := pR_ob h rfl hl v k
theorem g1034_17 (h : σ.ob a = 17) (k : Option Nat → Option α) : gR σ 1034 (some a) k = k (σ.fr 1034 a) := gR_ob h rfl k
theorem p1034_17 (h : σ.ob a = 17) (hl : σ.lo ≤ a) (v : Option Nat) (k : St → Option α) : pR σ 1034 (some a) v k = k (σ.sR 1034 a v) := pR_ob h rfl hl v k
theorem g65_17 (h : σ.ob a = 17) (k : Int32 → Option α) : gI σ 65 (some a) k = k (σ.fi 65 a) := gI_ob h rfl k
theorem p65_17 (h : σ.ob a = 17) (hl : σ.lo ≤ a) (v : Int32) (k : St → Option α) : pI σ 65 (some a) v k = k (σ.sI 65 a v) := pI_ob h rfl hl v k
theorem g66_17 (h : σ.ob a = 17) (k : Int32 → Option α) : gI σ 66 (some a) k = k (σ.fi 66 a) := gI_ob h rfl k
theorem p66_17 (h : σ.ob a = 17) (hl : σ.lo ≤ a) (v : Int32) (k : St → Option α) : pI σ 66 (some a) v k = k (σ.sI 66 a v) := pI_ob h rfl hl v k
theorem g67_17 (h : σ.ob a = 17) (k : Int32 → Option α) : gI σ 67 (some a) k = k (σ.fi 67 a) := gI_ob h rfl k
theorem p67_17 (h : σ.ob a = 17) (hl : σ.lo ≤ a) (v : Int32) (k : St → Option α) : pI σ 67 (some a) v k = k (σ.sI 67 a v) := pI_ob h rfl hl v k
theorem g68_17 (h : σ.ob a = 17) (k : Int32 → Option α) : gI σ 68 (some a) k = k (σ.fi 68 a) := gI_ob h rfl k
theorem p68_17 (h : σ.ob a = 17) (hl : σ.lo ≤ a) (v : Int32) (k : St → Option α) : pI σ 68 (some a) v k = k (σ.sI 68 a v) := pI_ob h rfl hl v k
theorem g69_17 (h : σ.ob a = 17) (k : Int32 → Option α) : gI σ 69 (some a) k = k (σ.fi 69 a) := gI_ob h rfl k
theorem p69_17 (h : σ.ob a = 17) (hl : σ.lo ≤ a) (v : Int32) (k : St → Option α) : pI σ 69 (some a) v k = k (σ.sI 69 a v) := pI_ob h rfl hl v k
theorem g70_17 (h : σ.ob a = 17) (k : Int32 → Option α) : gI σ 70 (some a) k = k (σ.fi 70 a) := gI_ob h rfl k
theorem p70_17 (h : σ.ob a = 17) (hl : σ.lo ≤ a) (v : Int32) (k : St → Option α) : pI σ 70 (some a) v k = k (σ.sI 70 a v) := pI_ob h rfl hl v k
theorem g1032_18 (h : σ.ob a = 18) (k : Option Nat → Option α) : gR σ 1032 (some a) k = k (σ.fr 1032 a) := gR_ob h rfl k
theorem p1032_18 (h : σ.ob a = 18) (hl : σ.lo ≤ a) (v : Option Nat) (k : St → Option α) : pR σ 1032 (some a) v k = k (σ.sR 1032 a v) := pR_ob h rfl hl v k
theorem g1033_18 (h : σ.ob a = 18) (k : Option Nat → Option α) : gR σ 1033 (some a) k = k (σ.fr 1033 a) := gR_ob h rfl k
theorem p1033_18 (h : σ.ob a = 18) (hl : σ.lo ≤ a) (v : Option Nat) (k : St → Option α) : pR σ 1033 (some a) v k = k (σ.sR 1033 a v) := pR_ob h rfl hl v k
theorem g1034_18 (h : σ.ob a = 18) (k : Option Nat → Option α) : gR σ 1034 (some a) k = k (σ.fr 1034 a) := gR_ob h rfl k
theorem p1034_18 (h : σ.ob a = 18) (hl : σ.lo ≤ a) (v : Option Nat) (k : St → Option α) : pR σ 1034 (some a) v k = k (σ.sR 1034 a v) := pR_ob h rfl hl v k
theorem g65_18 (h : σ.ob a = 18) (k : Int32 → Option α) : gI σ 65 (some a) k = k (σ.fi 65 a) := gI_ob h rfl k
theorem p65_18 (h : σ.ob a = 18) (hl : σ.lo ≤ a) (v : Int32) (k : St → Option α) : pI σ 65 (some a) v k = k (σ.sI 65 a v) := pI_ob h rfl hl v k
theorem g66_18 (h : σ.ob a = 18) (k : Int32 → Option α) : gI σ 66 (some a) k = k (σ.fi 66 a) := gI_ob h rfl k
theorem p66_18 (h : σ.ob a = 18) (hl : σ.lo ≤ a) (v : Int32) (k : St → Option α) : pI σ 66 (some a) v k = k (σ.sI 66 a v) := pI_ob h rfl hl v k
theorem g67_18 (h : σ.ob a = 18) (k : Int32 → Option α) : gI σ 67 (some a) k = k (σ.fi 67 a) := gI_ob h rfl k
theorem p67_18 (h : σ.ob a = 18) (hl : σ.lo ≤ a) (v : Int32) (k : St → Option α) : pI σ 67 (some a) v k = k (σ.sI 67 a v) := pI_ob h rfl hl v k
theorem g68_18 (h : σ.ob a = 18) (k : Int32 → Option α) : gI σ 68 (some a) k = k (σ.fi 68 a) := gI_ob h rfl k
theorem p68_18 (h : σ.ob a = 18) (hl : σ.lo ≤ a) (v : Int32) (k : St → Option α) : pI σ 68 (some a) v k = k (σ.sI 68 a v) := pI_ob h rfl hl v k
theorem g69_18 (h : σ.ob a = 18) (k : Int32 → Option α) : gI σ 69 (some a) k = k (σ.fi 69 a) := gI_ob h rfl k
theorem p69_18 (h : σ.ob a = 18) (hl : σ.lo ≤ a) (v : Int32) (k : St → Option α) : pI σ 69 (some a) v k = k (σ.sI 69 a v) := pI_ob h rfl hl v k
theorem g70_18 (h : σ.ob a = 18) (k : Int32 → Option α) : gI σ 70 (some a) k = k (σ.fi 70 a) := gI_ob h rfl k
theorem p70_18 (h : σ.ob a = 18) (hl : σ.lo ≤ a) (v : Int32) (k : St → Option α) : pI σ 70 (some a) v k = k (σ.sI 70 a v) := pI_ob h rfl hl v k
theorem g1032_19 (h : σ.ob a = 19) (k : Option Nat → Option α) : gR σ 1032 (some a) k = k (σ.fr 1032 a) := gR_ob h rfl k
theorem p1032_19 (h : σ.ob a = 19) (hl : σ.lo ≤ a) (v : Option Nat) (k : St → Option α) : pR σ 1032 (some a) v k = k (σ.sR 1032 a v) := pR_ob h rfl hl v k
theorem g1033_19 (h : σ.ob a = 19) (k : Option Nat → Option α) : gR σ 1033 (some a) k = k (σ.fr 1033 a) := gR_ob h rfl k
theorem p1033_19 (h : σ.ob a = 19) (hl : σ.lo ≤ a) (v : Option Nat) (k : St → Option α) : pR σ 1033 (some a) v k = k (σ.sR 1033 a v) := pR_ob h rfl hl v k
theorem g1034_19 (h : σ.ob a = 19) (k : Option Nat → Option α) : gR σ 1034 (some a) k = k (σ.fr 1034 a) := gR_ob h rfl k
theorem p1034_19 (h : σ.ob a = 19) (hl : σ.lo ≤ a) (v : Option Nat) (k : St → Option α) : pR σ 1034 (some a) v k = k (σ.sR 1034 a v) := pR_ob h rfl hl v k
theorem g65_19 (h : σ.ob a = 19) (k : Int32 → Option α) : gI σ 65 (some a) k = k (σ.fi 65 a) := gI_ob h rfl k
theorem p65_19 (h : σ.ob a = 19) (hl : σ.lo ≤ a) (v : Int32) (k : St → Option α) : pI σ 65 (some a) v k = k (σ.sI 65 a v) := pI_ob h rfl hl v k
theorem g66_19 (h : σ.ob a = 19) (k : Int32 → Option α) : gI σ 66 (some a) k = k (σ.fi 66 a) := gI_ob h rfl k
theorem p66_19 (h : σ.ob a = 19) (hl : σ.lo ≤ a) (v : Int32) (k : St → Option α) : pI σ 66 (some a) v k = k (σ.sI 66 a v) := pI_ob h rfl hl v k
theorem g67_19 (h : σ.ob a = 19) (k : Int32 → Option α) : gI σ 67 (some a) k = k (σ.fi 67 a) := gI_ob h rfl k
theorem p67_19 (h : σ.ob a = 19) (hl : σ.lo ≤ a) (v : Int32) (k : St → Option α) : pI σ 67 (some a) v k = k (σ.sI 67 a v) := pI_ob h rfl hl v k
theorem g68_19 (h : σ.ob a = 19) (k : Int32 → Option α) : gI σ 68 (some a) k = k (σ.fi 68 a) := gI_ob h rfl k
theorem p68_19 (h : σ.ob a = 19) (hl : σ.lo ≤ a) (v : Int32) (k : St → Option α) : pI σ 68 (some a) v k = k (σ.sI 68 a v) := pI_ob h rfl hl v k
theorem g69_19 (h : σ.ob a = 19) (k : Int32 → Option α) : gI σ 69 (some a) k = k (σ.fi 69 a) := gI_ob h rfl k
theorem p69_19 (h : σ.ob a = 19) (hl : σ.lo ≤ a) (v : Int32) (k : St → Option α) : pI σ 69 (some a) v k = k (σ.sI 69 a v) := pI_ob h rfl hl v k
theorem g70_19 (h : σ.ob a = 19) (k : Int32 → Option α) : gI σ 70 (some a) k = k (σ.fi 70 a) := gI_ob h rfl k
theorem p70_19 (h : σ.ob a = 19) (hl : σ.lo ≤ a) (v : Int32) (k : St → Option α) : pI σ 70 (some a) v k = k (σ.sI 70 a v) := pI_ob h rfl hl v k
theorem g1032_20 (h : σ.ob a = 20) (k : Option Nat → Option α) : gR σ 1032 (some a) k = k (σ.fr 1032 a) := gR_ob h rfl k
theorem p1032_20 (h : σ.ob a = 20) (hl : σ.lo ≤ a) (v : Option Nat) (k : St → Option α) : pR σ 1032 (some a) v k = k (σ.sR 1032 a v) := pR_ob h rfl hl v k
theorem g71_20 (h : σ.ob a = 20) (k : Int32 → Option α) : gI σ 71 (some a) k = k (σ.fi 71 a) := gI_ob h rfl k
theorem p71_20 (h : σ.ob a = 20) (hl : σ.lo ≤ a) (v : Int32) (k : St → Option α) : pI σ 71 (some a) v k = k (σ.sI 71 a v) := pI_ob h rfl hl v k
theorem g72_20 (h : σ.ob a = 20) (k : Int32 → Option α) : gI σ 72 (some a) k = k (σ.fi 72 a) := gI_ob h rfl k
theorem p72_20 (h : σ.ob a = 20) (hl : σ.lo ≤ a) (v : Int32) (k : St → Option α) : pI σ 72 (some a) v k = k (σ.sI 72 a v) := pI_ob h rfl hl v k
theorem g73_20 (h : σ.ob a = 20) (k : Int32 → Option α) : gI σ 73 (some a) k = k (σ.fi 73 a) := gI_ob h rfl k
theorem p73_20 (h : σ.ob a = 20) (hl : σ.lo ≤ a) (v : Int32) (k : St → Option α) : pI σ 73 (some a) v k = k (σ.sI 73 a v) := pI_ob h rfl hl v k
theorem g74_20 (h : σ.ob a = 20) (k : Int32 → Option α) : gI σ 74 (some a) k = k (σ.fi 74 a) := gI_ob h rfl k
theorem p74_20 (h : σ.ob a = 20) (hl : σ.lo ≤ a) (v : Int32) (k : St → Option α) : pI σ 74 (some a) v k = k (σ.sI 74 a v) := pI_ob h rfl hl v k
theorem g75_20 (h : σ.ob a = 20) (k : Int32 → Option α) : gI σ 75 (some a) k = k (σ.fi 75 a) := gI_ob h rfl k
theorem p75_20 (h : σ.ob a = 20) (hl : σ.lo ≤ a) (v : Int32) (k : St → Option α) : pI σ 75 (some a) v k = k (σ.sI 75 a v) := pI_ob h rfl hl v k
theorem g76_20 (h : σ.ob a = 20) (k : Int32 → Option α) : gI σ 76 (some a) k = k (σ.fi 76 a) := gI_ob h rfl k
theorem p76_20 (h : σ.ob a = 20) (hl : σ.lo ≤ a) (v : Int32) (k : St → Option α) : pI σ 76 (some a) v k = k (σ.sI 76 a v) := pI_ob h rfl hl v k
theorem g1035_21 (h : σ.ob a = 21) (k : Option Nat → Option α) : gR σ 1035 (some a) k = k (σ.fr 1035 a) := gR_ob h rfl k
theorem p1035_21 (h : σ.ob a = 21) (hl : σ.lo ≤ a) (v : Option Nat) (k : St → Option α) : pR σ 1035 (some a) v k = k (σ.sR 1035 a v) := pR_ob h rfl hl v k
theorem g1036_21 (h : σ.ob a = 21) (k : Option Nat → Option α) : gR σ 1036 (some a) k = k (σ.fr 1036 a) := gR_ob h rfl k
theorem p1036_21 (h : σ.ob a = 21) (hl : σ.lo ≤ a) (v : Option Nat) (k : St → Option α) : pR σ 1036 (some a) v k = k (σ.sR 1036 a v) := pR_ob h rfl hl v k
theorem g77_21 (h : σ.ob a = 21) (k : Int32 → Option α) : gI σ 77 (some a) k = k (σ.fi 77 a) := gI_ob h rfl k
theorem p77_21 (h : σ.ob a = 21) (hl : σ.lo ≤ a) (v : Int32) (k : St → Option α) : pI σ 77 (some a) v k = k (σ.sI 77 a v) := pI_ob h rfl hl v k
theorem g78_21 (h : σ.ob a = 21) (k : Int32 → Option α) : gI σ 78 (some a) k = k (σ.fi 78 a) := gI_ob h rfl k
theorem p78_21 (h : σ.ob a = 21) (hl : σ.lo ≤ a) (v : Int32) (k : St → Option α) : pI σ 78 (some a) v k = k (σ.sI 78 a v) := pI_ob h rfl hl v k
theorem g1037_22 (h : σ.ob a = 22) (k : Option Nat → Option α) : gR σ 1037 (some a) k = k (σ.fr 1037 a) := gR_ob h rfl k
theorem p1037_22 (h : σ.ob a = 22) (hl : σ.lo ≤ a) (v : Option Nat) (k : St → Option α) : pR σ 1037 (some a) v k = k (σ.sR 1037 a v) := pR_ob h rfl hl v k
theorem g1038_22 (h : σ.ob a = 22) (k : Option Nat → Option α) : gR σ 1038 (some a) k = k (σ.fr 1038 a) := gR_ob h rfl k
theorem p1038_22 (h : σ.ob a = 22) (hl : σ.lo ≤ a) (v : Option Nat) (k : St → Option α) : pR σ 1038 (some a) v k = k (σ.sR 1038 a v) := pR_ob h rfl hl v k
theorem g1039_22 (h : σ.ob a = 22) (k : Option Nat → Option α) : gR σ 1039 (some a) k = k (σ.fr 1039 a) := gR_ob h rfl k
theorem p1039_22 (h : σ.ob a = 22) (hl : σ.lo ≤ a) (v : Option Nat) (k : St → Option α) : pR σ 1039 (some a) v k = k (σ.sR 1039 a v) := pR_ob h rfl hl v k
theorem g1040_22 (h : σ.ob a = 22) (k : Option Nat → Option α) : gR σ 1040 (some a) k = k (σ.fr 1040 a) := gR_ob h rfl k
theorem p1040_22 (h : σ.ob a = 22) (hl : σ.lo ≤ a) (v : Option Nat) (k : St → Option α) : pR σ 1040 (some a) v k = k (σ.sR 1040 a v) := pR_ob h rfl hl v k
theorem g1041_22 (h : σ.ob a = 22) (k : Option Nat → Option α) : gR σ 1041 (some a) k = k (σ.fr 1041 a) := gR_ob h rfl k
theorem p1041_22 (h : σ.ob a = 22) (hl : σ.lo ≤ a) (v : Option Nat) (k : St → Option α) : pR σ 1041 (some a) v k = k (σ.sR 1041 a v) := pR_ob h rfl hl v k
theorem g79_22 (h : σ.ob a = 22) (k : Int32 → Option α) : gI σ 79 (some a) k = k (σ.fi 79 a) := gI_ob h rfl k
theorem p79_22 (h : σ.ob a = 22) (hl : σ.lo ≤ a) (v : Int32) (k : St → Option α) : pI σ 79 (some a) v k = k (σ.sI 79 a v) := pI_ob h rfl hl v k
theorem gP65 (h : ∃ k, k < 4 ∧ σ.ob a = 16 + k) (k : Int32 → Option α) : gI σ 65 (some a) k = k (σ.fi 65 a) := by
  obtain ⟨j, hj, e⟩ := h
  match j, hj, e with
  | 0, _, e => exact gI_ob e rfl k
  | 1, _, e => exact gI_ob e rfl k
  | 2, _, e => exact gI_ob e rfl k
  | 3, _, e => exact gI_ob e rfl k
theorem pP65 (h : ∃ k, k < 4 ∧ σ.ob a = 16 + k) (hl : σ.lo ≤ a) (v : Int32) (k : St → Option α) : pI σ 65 (some a) v k = k (σ.sI 65 a v) := by
  obtain ⟨j, hj, e⟩ := h
  match j, hj, e with
  | 0, _, e => exact pI_ob e rfl hl v k
  | 1, _, e => exact pI_ob e rfl hl v k
  | 2, _, e => exact pI_ob e rfl hl v k
  | 3, _, e => exact pI_ob e rfl hl v k
theorem gP66 (h : ∃ k, k < 4 ∧ σ.ob a = 16 + k) (k : Int32 → Option α) : gI σ 66 (some a) k = k (σ.fi 66 a) := by
  obtain ⟨j, hj, e⟩ := h
  match j, hj, e with
  | 0, _, e => exact gI_ob e rfl k
  | 1, _, e => exact gI_ob e rfl k
  | 2, _, e => exact gI_ob e rfl k
  | 3, _, e => exact gI_ob e rfl k
theorem pP66 (h : ∃ k, k < 4 ∧ σ.ob a = 16 + k) (hl : σ.lo ≤ a) (v : Int32) (k : St → Option α) : pI σ 66 (some a) v k = k (σ.sI 66 a v) := by
  obtain ⟨j, hj, e⟩ := h
  match j, hj, e with
  | 0, _, e => exact pI_ob e rfl hl v k
  | 1, _, e => exact pI_ob e rfl hl v k
  | 2, _, e => exact pI_ob e rfl hl v k
  | 3, _, e => exact pI_ob e rfl hl v k
theorem gP67 (h : ∃ k, k < 4 ∧ σ.ob a = 16 + k) (k : Int32 → Option α) : gI σ 67 (some a) k = k (σ.fi 67 a) := by
  obtain ⟨j, hj, e⟩ := h
  match j, hj, e with
  | 0, _, e => exact gI_ob e rfl k
  | 1, _, e => exact gI_ob e rfl k
  | 2, _, e => exact gI_ob e rfl k
  | 3, _, e => exact gI_ob e rfl k
theorem pP67 (h : ∃ k, k < 4 ∧ σ.ob a = 16 + k) (hl : σ.lo ≤ a) (v : Int32) (k : St → Option α) : pI σ 67 (some a) v k = k (σ.sI 67 a v) := by
  obtain ⟨j, hj, e⟩ := h
  match j, hj, e with
  | 0, _, e => exact pI_ob e rfl hl v k
  | 1, _, e => exact pI_ob e rfl hl v k
  | 2, _, e => exact pI_ob e rfl hl v k
  | 3, _, e => exact pI_ob e rfl hl v k
theorem gP68 (h : ∃ k, k < 4 ∧ σ.ob a = 16 + k) (k : Int32 → Option α) : gI σ 68 (some a) k = k (σ.fi 68 a) := by
  obtain ⟨j, hj, e⟩ := h
  match j, hj, e with
  | 0, _, e => exact gI_ob e rfl k
  | 1, _, e => exact gI_ob e rfl k
  | 2, _, e => exact gI_ob e rfl k
  | 3, _, e => exact gI_ob e rfl k
theorem pP68 (h : ∃ k, k < 4 ∧ σ.ob a = 16 + k) (hl : σ.lo ≤ a) (v : Int32) (k : St → Option α) : pI σ 68 (some a) v k = k (σ.sI 68 a v) := by
  obtain ⟨j, hj, e⟩ := h
  match j, hj, e with
  | 0, _, e => exact pI_ob e rfl hl v k
  | 1, _, e => exact pI_ob e rfl hl v k
  | 2, _, e => exact pI_ob e rfl hl v k
  | 3, _, e => exact pI_ob e rfl hl v k
theorem gP69 (h : ∃ k, k < 4 ∧ σ.ob a = 16 + k) (k : Int32 → Option α) : gI σ 69 (some a) k = k (σ.fi 69 a) := by
  obtain ⟨j, hj, e⟩ := h
  match j, hj, e with
  | 0, _, e => exact gI_ob e rfl k
  | 1, _, e => exact gI_ob e rfl k
  | 2, _, e => exact gI_ob e rfl k
  | 3, _, e => exact gI_ob e rfl k
theorem pP69 (h : ∃ k, k < 4 ∧ σ.ob a = 16 + k) (hl : σ.lo ≤ a) (v : Int32) (k : St → Option α) : pI σ 69 (some a) v k = k (σ.sI 69 a v) := by
  obtain ⟨j, hj, e⟩ := h
  match j, hj, e with
  | 0, _, e => exact pI_ob e rfl hl v k
  | 1, _, e => exact pI_ob e rfl hl v k
  | 2, _, e => exact pI_ob e rfl hl v k
  | 3, _, e => exact pI_ob e rfl hl v k
theorem gP70 (h : ∃ k, k < 4 ∧ σ.ob a = 16 + k) (k : Int32 → Option α) : gI σ 70 (some a) k = k (σ.fi 70 a) := by
  obtain ⟨j, hj, e⟩ := h
  match j, hj, e with
  | 0, _, e => exact gI_ob e rfl k
  | 1, _, e => exact gI_ob e rfl k
  | 2, _, e => exact gI_ob e rfl k
  | 3, _, e => exact gI_ob e rfl k
theorem pP70 (h : ∃ k, k < 4 ∧ σ.ob a = 16 + k) (hl : σ.lo ≤ a) (v : Int32) (k : St → Option α) : pI σ 70 (some a) v k = k (σ.sI 70 a v) := by
  obtain ⟨j, hj, e⟩ := h
  match j, hj, e with
  | 0, _, e => exact pI_ob e rfl hl v k
  | 1, _, e => exact pI_ob e rfl hl v k
  | 2, _, e => exact pI_ob e rfl hl v k
  | 3, _, e => exact pI_ob e rfl hl v k
theorem gP1032 (h : ∃ k, k < 4 ∧ σ.ob a = 16 + k) (k : Option Nat → Option α) : gR σ 1032 (some a) k = k (σ.fr 1032 a) := by
  obtain ⟨j, hj, e⟩ := h
  match j, hj, e with
  | 0, _, e => exact gR_ob e rfl k
  | 1, _, e => exact gR_ob e rfl k
  | 2, _, e => exact gR_ob e rfl k
  | 3, _, e => exact gR_ob e rfl k
theorem gP1033 (h : ∃ k, k < 4 ∧ σ.ob a = 16 + k) (k : Option Nat → Option α) : gR σ 1033 (some a) k = k (σ.fr 1033 a) := by
  obtain ⟨j, hj, e⟩ := h
  match j, hj, e with
  | 0, _, e => exact gR_ob e rfl k
  | 1, _, e => exact gR_ob e rfl k
  | 2, _, e => exact gR_ob e rfl k
  | 3, _, e => exact gR_ob e rfl k
theorem gP1034 (h : ∃ k, k < 4 ∧ σ.ob a = 16 + k) (k : Option Nat → Option α) : gR σ 1034 (some a) k = k (σ.fr 1034 a) := by
  obtain ⟨j, hj, e⟩ := h
  match j, hj, e with
  | 0, _, e => exact gR_ob e rfl k
  | 1, _, e => exact gR_ob e rfl k
  | 2, _, e => exact gR_ob e rfl k
  | 3, _, e => exact gR_ob e rfl k
theorem ckP (h : ∃ k, k < 4 ∧ σ.ob a = 16 + k) (k : Option α) : ck σ [16, 17, 18, 19] (some a) k = k := by
  obtain ⟨j, hj, e⟩ := h
  match j, hj, e with
  | 0, _, e => exact ck_ob e rfl k
  | 1, _, e => exact ck_ob e rfl k
  | 2, _, e => exact ck_ob e rfl k
  | 3, _, e => exact ck_ob e rfl k
end
