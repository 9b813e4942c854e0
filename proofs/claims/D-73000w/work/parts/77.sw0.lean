/-! SWINGS: fractions -/
set_option maxRecDepth 100000
theorem li_cmp {a : Nat} (h : a < 2 ^ 63) : (lg_cmp (Int64.ofNat a) 0 = 0) = (a = 0) := by
  have e : (Int64.ofNat a).toInt = a := Int64.toInt_ofNat_of_lt h
  unfold lg_cmp
  simp only [Int64.lt_iff_toInt_lt, e]
  apply propext
  have z : Int64.toInt 0 = 0 := rfl
  rw [z]
  by_cases h0 : a = 0
  · subst h0
    simp
  · rw [if_pos (by omega)]
    simp [h0]
theorem li_nz {a : Nat} (h : a < 2 ^ 63) (h0 : a ≠ 0) : ¬ (Int64.ofNat a = 0) := by
  intro q
  have e : (Int64.ofNat a).toInt = a := Int64.toInt_ofNat_of_lt h
  rw [q] at e
  have : (0 : Int64).toInt = 0 := rfl
  omega
theorem li_mod {a b : Nat} (ha : a < 2 ^ 63) (hb : b < 2 ^ 63) : Int64.ofNat a - Int64.ofNat a / Int64.ofNat b * Int64.ofNat b = Int64.ofNat (a % b) := by
  have h : a / b * b ≤ a := Nat.div_mul_le_self a b
  rw [← Int64.ofNat_div ha hb, ← Int64.ofNat_mul, ← Int64.ofNat_sub _ _ h]
  congr 1
  have := Nat.div_add_mod a b
  rw [Nat.mul_comm] at this
  omega
theorem X_gcd : ∀ n b a, b < n → a < 2 ^ 63 → b < 2 ^ 63 → sX1_common_L6 n (Int64.ofNat a) (Int64.ofNat b) = some (Int64.ofNat (Nat.gcd b a)) := by
  intro n
  induction n with
  | zero => intro b a h; omega
  | succ n ih =>
    intro b a h ha hb
    rw [sX1_common_L6, iteP (li_cmp hb)]
    by_cases h0 : b = 0
    · rw [if_pos h0, h0, Nat.gcd_zero_left]
    · rw [if_neg h0, show ∀ k : Option Int64, dzL (Int64.ofNat b) k = k from fun k => if_neg (li_nz hb h0), li_mod ha hb, ih (a % b) b (by have := Nat.mod_lt a (show 0 < b by omega); omega) hb (by have := Nat.mod_lt a (show 0 < b by omega); omega), Nat.gcd_rec b a]
theorem M_gcd : ∀ n b a, b < n → a < 2 ^ 63 → b < 2 ^ 63 → sX2_lowest_L6 n (Int64.ofNat a) (Int64.ofNat b) = some (Int64.ofNat (Nat.gcd b a)) := by
  intro n
  induction n with
  | zero => intro b a h; omega
  | succ n ih =>
    intro b a h ha hb
    rw [sX2_lowest_L6, iteP (li_cmp hb)]
    by_cases h0 : b = 0
    · rw [if_pos h0, h0, Nat.gcd_zero_left]
    · rw [if_neg h0, show ∀ k : Option Int64, dzL (Int64.ofNat b) k = k from fun k => if_neg (li_nz hb h0), li_mod ha hb, ih (a % b) b (by have := Nat.mod_lt a (show 0 < b by omega); omega) hb (by have := Nat.mod_lt a (show 0 < b by omega); omega), Nat.gcd_rec b a]
/-- what both make of a fraction -/
def frac (a b : Nat) (v : Int32) : Int64 := (if v = 0 then Int64.ofNat a else Int64.ofNat b) / Int64.ofNat (Nat.gcd a b)
theorem M_low (s : St) {a b : Nat} (v : Int32) (ha : a < 100000) (hb : b < 2 ^ 63) (h0 : 0 < b) : sX2_lowest s (Int64.ofNat a) (Int64.ofNat b) v = some (frac a b v) := by
  have g : 0 < Nat.gcd a b := Nat.gcd_pos_of_pos_right _ h0
  have g2 : Nat.gcd a b ≤ b := Nat.gcd_le_right _ h0
  unfold sX2_lowest frac
  rw [M_gcd FU a b ha hb (by omega), bp_s]
  by_cases hv : v = 0
  · rw [if_pos hv, if_pos hv, bp_s, show ∀ k : Option Int64, dzL (Int64.ofNat (Nat.gcd a b)) k = k from fun k => if_neg (li_nz (by omega) (by omega))]
  · rw [if_neg hv, if_neg hv, bp_s, show ∀ k : Option Int64, dzL (Int64.ofNat (Nat.gcd a b)) k = k from fun k => if_neg (li_nz (by omega) (by omega))]
theorem X_fra {s : St} {x a b : Nat} (hx : s.ob x = 5) (hl : s.lo ≤ x) (v : Int32) (ha : a < 2 ^ 63) (hb : b < 100000) (h0 : 0 < b) : sX1_fraction s x (Int64.ofNat a) (Int64.ofNat b) v = some (en s x 0, frac a b v) := by
  have g : 0 < Nat.gcd b a := Nat.gcd_pos_of_pos_left _ h0
  have g2 : Nat.gcd b a ≤ b := Nat.gcd_le_left _ h0
  unfold sX1_fraction frac sX1_common
  rw [kd_ob hx, X_well hx hl, bd_s, X_gcd FU b a hb ha (by omega), Nat.gcd_comm a b]
  by_cases hv : v = 0
  · rw [if_pos hv, if_pos hv, bp_s, bp_s, bp_s, show ∀ k : Option (St × Int64), dzL (Int64.ofNat (Nat.gcd b a)) k = k from fun k => if_neg (li_nz (by omega) (by omega))]
  · rw [if_neg hv, if_neg hv, bp_s, bp_s, bp_s, show ∀ k : Option (St × Int64), dzL (Int64.ofNat (Nat.gcd b a)) k = k from fun k => if_neg (li_nz (by omega) (by omega))]
theorem li_s : ∀ a, a < 65 → Int32.toInt64 (nI a) = Int64.ofNat a := by decide +kernel
theorem li_sh : ∀ a, a < 9 → (1 : Int64) <<< (Int32.toInt64 (nI a) &&& 63) = Int64.ofNat (2 ^ a) := by decide +kernel
