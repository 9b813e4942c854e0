/-! SWINGS: the operation -/
set_option maxRecDepth 100000
section
variable {x mo : Nat} {sx sm : St} {w : Nat → Nat → Nat} {R S T : Nat → Nat}
theorem sw_x {s0 : St} (hC : CT x mo sx s0 sm w R S) {k rest : Nat} (hk : k < R 3) (hr : rest < 64) (hb : rest.testBit k = false) : Wp (sX1_swings_L86 sx x (nI k) (nI rest) FU 0 0) (fun v => v = nI (itN (swF R k rest) (rest + 1) 0 0)) := by
  have h3 := hC.qc.wf.2.2.2.2.1
  refine Wp_loop (fun n (b : Int32) v => sX1_swings_L86 sx x (nI k) (nI rest) n b (nI v)) (rest + 1) (fun v b => ∃ t, b = nI t ∧ t ≤ v ∧ itN (swF R k rest) (rest + 1 - v) v t = itN (swF R k rest) (rest + 1) 0 0) (by omega) (fun n v b hv hi hn => ?_) 0 (Nat.zero_le _) 0 ⟨0, rfl, Nat.le_refl _, rfl⟩
  obtain ⟨t, rfl, i4, i5⟩ := hi
  rw [sX1_swings_L86]
  by_cases hkk : v = rest + 1
  · rw [if_pos (nI_lt (by omega) (by omega))]
    rw [hkk, Nat.sub_self] at i5
    exact ⟨_, rfl, by rw [← i5]; rfl⟩
  · have hk' : v < rest + 1 := by omega
    have hk6 : v < 64 := by omega
    rw [show rest + 1 - v = (rest + 1 - (v + 1)) + 1 by omega] at i5
    have i5' : itN (swF R k rest) (rest + 1 - (v + 1)) (v + 1) (swF R k rest v t) = itN (swF R k rest) (rest + 1) 0 0 := i5
    obtain ⟨y1, y2⟩ := X_eye hC.qc hC.fl np (s := v) (by omega)
    have c6 : ((6 : Int32) ≤ nI (eyesS R (eyP R none) v)) = (6 ≤ eyesS R (eyP R none) v) := nI_le' (a := 6) (by decide) (by omega)
    rw [if_neg (nI_nlt (by omega) (by omega)), iteP (and_Mz (by omega))]
    by_cases hc : v &&& (rest ^^^ 4294967295) = 0
    · have hvb := sub_bit v hk6 rest hr hc k (by omega) hb
      have l1 : nI v ||| ((1 : Int32) <<< (nI k &&& 31)) = nI (v ||| 2 ^ k) := by
        rw [show (1 : Int32) <<< (nI k &&& 31) = nI (2 ^ k) from nI_shl1 (by omega), nI_or]
      have p2 : 2 ^ k < 64 := Nat.lt_of_lt_of_le (Nat.pow_lt_pow_right (by decide) (show k < 6 by omega)) (by decide)
      have hor : v ||| 2 ^ k < 2 ^ 6 := Nat.or_lt_two_pow hk6 p2
      obtain ⟨z1, z2⟩ := X_eye hC.qc hC.fl np (s := v ||| 2 ^ k) (by omega)
      rw [eyes_or hk hvb] at z1 z2
      have d6 : (nI (eyesS R (eyP R none) v + eyP R none k) < (6 : Int32)) = (eyesS R (eyP R none) v + eyP R none k < 6) := nI_lt' (b := 6) (by omega) (by decide)
      rw [if_pos hc, hC.qc.xd.k5, y1, bp_s, iteP c6]
      by_cases h6 : 6 ≤ eyesS R (eyP R none) v
      · have e : swF R k rest v t = t := if_neg (fun a => by omega)
        rw [e] at i5'
        rw [if_pos h6, bp_s, show nI t + 0 = nI t from nI_add (a := t) (b := 0), nI_1]
        exact hn hk' _ ⟨t, rfl, by omega, i5'⟩
      · rw [if_neg h6, hC.qc.xd.k5, l1, z1, bp_s, iteP d6]
        by_cases h7 : eyesS R (eyP R none) v + eyP R none k < 6
        · have e : swF R k rest v t = t := if_neg (fun a => by omega)
          rw [e] at i5'
          rw [if_pos h7, bp_s, show nI t + 0 = nI t from nI_add (a := t) (b := 0), nI_1]
          exact hn hk' _ ⟨t, rfl, by omega, i5'⟩
        · have e : swF R k rest v t = t + 1 := if_pos ⟨hc, by omega, by omega⟩
          rw [e] at i5'
          rw [if_neg h7, bp_s, nI_1, nI_1]
          exact hn hk' _ ⟨t + 1, rfl, by omega, i5'⟩
    · have e : swF R k rest v t = t := if_neg (fun a => hc a.1)
      rw [e] at i5'
      rw [if_neg hc, bp_s, show nI t + 0 = nI t from nI_add (a := t) (b := 0), nI_1]
      exact hn hk' _ ⟨t, rfl, by omega, i5'⟩
theorem sw_m {s0 τ : St} (hC : CT x mo sx s0 sm w R S) (m2 : MC τ mo R S) (m3 : TRL τ mo R S 0 none) {k rest : Nat} (hk : k < R 3) (hr : rest < 2 ^ R 3) : Wp (sX2_swings_L97 τ mo (nI k) (nI rest) FU 0 0 0) (fun p => p = (nI (itN (maF rest) (rest + 1) 0 0), nI (itN (swF R k rest) (rest + 1) 0 0)) ∧ itN (swF R k rest) (rest + 1) 0 0 ≤ 64) := by
  have hw := hC.qc.wf
  have h3 := hw.2.2.2.2.1
  have hp6 := pow6 hw
  have a1 : itN (swF R k rest) (2 ^ R 3) 0 0 = itN (swF R k rest) (rest + 1) 0 0 := sub_all _ _ _ _ (by omega) hr (fun v o hn => if_neg (fun a => hn a.1))
  have a2 : itN (maF rest) (2 ^ R 3) 0 0 = itN (maF rest) (rest + 1) 0 0 := sub_all _ _ _ _ (by omega) hr (fun v o hn => if_neg hn)
  rw [← a1, ← a2]
  refine Wp_loop (fun n (b : Int32 × Int32) v => sX2_swings_L97 τ mo (nI k) (nI rest) n b.1 b.2 (nI v)) (2 ^ R 3) (fun v b => ∃ c t, b = (nI c, nI t) ∧ c ≤ v ∧ t ≤ v ∧ itN (maF rest) (2 ^ R 3 - v) v c = itN (maF rest) (2 ^ R 3) 0 0 ∧ itN (swF R k rest) (2 ^ R 3 - v) v t = itN (swF R k rest) (2 ^ R 3) 0 0) (by omega) (fun n v b hv hi hn => ?_) 0 (Nat.zero_le _) (0, 0) ⟨0, 0, rfl, Nat.le_refl _, Nat.le_refl _, rfl, rfl⟩
  obtain ⟨c, t, rfl, i3, i4, i6, i5⟩ := hi
  have l1 : (1 : Int32) <<< (nI (R 3) &&& 31) = nI (2 ^ R 3) := nI_shl1 (by omega)
  show Wp (sX2_swings_L97 τ mo (nI k) (nI rest) (n + 1) (nI c) (nI t) (nI v)) _
  rw [sX2_swings_L97, M_n3 m2, l1]
  by_cases hkk : v = 2 ^ R 3
  · rw [if_pos (nI_le (by omega) (by omega))]
    rw [hkk, Nat.sub_self] at i5 i6
    exact ⟨_, rfl, by rw [← i5, ← i6]; rfl, by rw [← i5]; show t ≤ 64; omega⟩
  · have hk' : v < 2 ^ R 3 := by omega
    have hk6 : v < 64 := by omega
    rw [show 2 ^ R 3 - v = (2 ^ R 3 - (v + 1)) + 1 by omega] at i5 i6
    have i5' : itN (swF R k rest) (2 ^ R 3 - (v + 1)) (v + 1) (swF R k rest v t) = itN (swF R k rest) (2 ^ R 3) 0 0 := i5
    have i6' : itN (maF rest) (2 ^ R 3 - (v + 1)) (v + 1) (maF rest v c) = itN (maF rest) (2 ^ R 3) 0 0 := i6
    have y1 := M_eye m2 m3 hw (s := v) (by omega)
    have y2 := (X_eye hC.qc hC.fl np (s := v) (by omega)).2
    have y3 := eyP_le R none k
    have y4 : τ.ai (mo + 10) k = nI (eyP R none k) := m3.2.2 k hk
    have c6 : ((6 : Int32) ≤ nI (eyesS R (eyP R none) v)) = (6 ≤ eyesS R (eyP R none) v) := nI_le' (a := 6) (by decide) (by omega)
    have d6 : (nI (eyesS R (eyP R none) v + eyP R none k) < (6 : Int32)) = (eyesS R (eyP R none) v + eyP R none k < 6) := nI_lt' (b := 6) (by omega) (by decide)
    rw [if_neg (nI_ge (by omega) (by omega)), iteP (and_Mz (by omega))]
    by_cases hc : v &&& (rest ^^^ 4294967295) = 0
    · have ec : maF rest v c = c + 1 := if_pos hc
      rw [ec] at i6'
      rw [if_pos hc, M_kd m2.1, y1, bp_s, iteP c6]
      by_cases h6 : 6 ≤ eyesS R (eyP R none) v
      · have e : swF R k rest v t = t := if_neg (fun a => by omega)
        rw [e] at i5'
        rw [if_pos h6, bp_s, b2_s, show nI t + 0 = nI t from nI_add (a := t) (b := 0), nI_1, nI_1]
        exact hn hk' (nI (c + 1), nI t) ⟨c + 1, t, rfl, by omega, by omega, i6', i5'⟩
      · rw [if_neg h6, M_kd m2.1, bp_s, M_r1018 m2.1, M_l10 m2.1 (by omega), y4, nI_add, iteP d6]
        by_cases h7 : eyesS R (eyP R none) v + eyP R none k < 6
        · have e : swF R k rest v t = t := if_neg (fun a => by omega)
          rw [e] at i5'
          rw [if_pos h7, bp_s, b2_s, show nI t + 0 = nI t from nI_add (a := t) (b := 0), nI_1, nI_1]
          exact hn hk' (nI (c + 1), nI t) ⟨c + 1, t, rfl, by omega, by omega, i6', i5'⟩
        · have e : swF R k rest v t = t + 1 := if_pos ⟨hc, by omega, by omega⟩
          rw [e] at i5'
          rw [if_neg h7, bp_s, b2_s, nI_1, nI_1, nI_1]
          exact hn hk' (nI (c + 1), nI (t + 1)) ⟨c + 1, t + 1, rfl, by omega, by omega, i6', i5'⟩
    · have ec : maF rest v c = c := if_neg hc
      have e : swF R k rest v t = t := if_neg (fun a => hc a.1)
      rw [e] at i5'
      rw [ec] at i6'
      rw [if_neg hc, b2_s, nI_1]
      exact hn hk' (nI c, nI t) ⟨c, t, rfl, by omega, by omega, i6', i5'⟩
end
