/-! SWINGS: joined -/
set_option maxRecDepth 100000
section
variable {x mo : Nat} {sx sm : St} {w : Nat → Nat → Nat} {R S T : Nat → Nat}
theorem man_le : ∀ r, r < 64 → itN (maF r) (r + 1) 0 0 < 65 := by decide +kernel
theorem ref_L (h : RL x mo sx sm) (c : Int32) (hc : c ≠ 4) : W2 (kd sx x 5 <| bd (sX1_refused sx x c) fun s v => some (s, Int32.toInt64 v)) (kd (gd sm mo) mo 7 <| bd (sX2_no (gd sm mo) mo c) fun s v => some (s, Int32.toInt64 v)) (Op x mo sx sm) := by
  have hx := h.1.1
  have hm := gd_ms h.1.2.1
  rw [kd_ob hx.1, X_refused hx.1 hx.2.1, bd_s, M_kd hm, M_no hm, bd_s]
  exact W2_ret ⟨rfl, h.refuse c hc, ⟨by show sx.rc ≤ sx.rc + 18000; omega, by show sx.rs ≤ sx.rs + 85000; omega⟩, rfl⟩
theorem OP_swings (h : RL x mo sx sm) (v p u n : Int32) : W2 (sX1_swings sx x v p u n) (sX2_swings sm mo v p u n) (Op x mo sx sm) := by
  unfold sX1_swings sX2_swings
  obtain ⟨b, g1, g2, g3⟩ := h.isM v
  obtain ⟨c, f1, f2, f3⟩ := h.isP p
  dsimp only at g2 f2
  have hm := gd_ms h.1.2.1
  have e60 : (decide (0 ≤ u) && decide (u ≤ 59)) = isB u 60 := in_le (v := u) (n := 59) (by decide)
  rw [kd_ob h.1.1.1, g1, bp_s, M_kd h.1.2.1, M_good h.1.2.1, bp_s, M_kd hm, g2, bp_s]
  have e1 : (if nI (b1 b) = 0 then (some 0) else kd sx x 5 <| bp (sX1_isPlace sx x p) fun v22 => if v22 = 0 then (some 0) else (some 1)) = some (nI (b1 (b && c))) := by
    rw [kd_ob h.1.1.1, f1, bp_s]
    cases b <;> cases c <;> rfl
  have e2 : (if nI (b1 b) = 0 then (some 0) else kd (gd sm mo) mo 7 <| bp (sX2_isPlace (gd sm mo) mo p) fun v22 => if v22 = 0 then (some 0) else (some 1)) = some (nI (b1 (b && c))) := by
    rw [M_kd hm, f2, bp_s]
    cases b <;> cases c <;> rfl
  rw [e1, e2, bp_s, bp_s, kd_ob h.1.1.1, X_whyM h.1.1.1, X_why (m := isB u 60) e60, bp_s, M_kd hm, M_isMinute, bp_s, M_kd hm, M_why, bp_s]
  cases b
  · exact ref_L h (nI 1) (by decide)
  · cases c
    · exact ref_L h (nI 1) (by decide)
    · cases hmm : isB u 60
      · exact ref_L h (nI 2) (by decide)
      · obtain ⟨w, R, S, k, hC, hk', rfl⟩ := g3 rfl
        obtain ⟨w', R', S', k2, hC', hk2, rfl⟩ := f3 rfl
        have hR1 : R' 1 = R 1 := by
          have a := hC.mc.2.1 1 (by decide)
          have b := hC'.mc.2.1 1 (by decide)
          rw [a] at b
          have := hC.qc.wf.r1
          have := hC'.qc.wf.r1
          exact ((nI_eq' (by omega) (by omega)).mp b).symm
        obtain ⟨t, ht, rfl⟩ := isB_t (by decide) hmm
        have hw := hC.qc.wf
        have h6 := hw.2.2.1
        have h3 := hw.2.2.2.2.1
        have hp6 := pow6 hw
        obtain ⟨τ, e, m1, m2, m3⟩ := hC.now
        obtain ⟨a1, a2⟩ := X_wat hC.qc (p := k2) (t := t) (by omega) ht
        have a3 := watchS_p (R := R) (T := S) k2 t
        have hx := h.1.1
        show W2 (if nI 0 ≤ 0 then _ else _) (if nI 0 = 0 then _ else _) _
        rw [if_pos (show nI 0 ≤ 0 by decide), if_pos (show nI 0 = 0 by decide), hC.qc.xd.r1002, hC.qc.xd.s1.i21, a1, bp_s, X_has (by omega) (by omega), bp_s, M_kd hm, e, bp_s, M_kd m2.1, M_wat m2 m3 hw hC.qc.tb (by omega) ht, bp_s, M_hasBit (by omega) (by omega), bp_s]
        generalize watchS R S k2 t = all at a2 a3
        cases hb : all.testBit k
        · rw [show nI (b1 false) = 0 from rfl, if_pos rfl, if_pos rfl, kd_ob hx.1, show (0 : Int64) = Int64.ofNat 0 from rfl, show (1 : Int64) = Int64.ofNat 1 from rfl, X_fra hx.1 hx.2.1 n (by decide) (by decide) (by decide), bd_s, M_low τ n (by decide) (by decide) (by decide), bp_s]
          exact W2_ret (fin_op hC (Xq.rf _ _ _) m1 hC.fl rfl)
        · obtain ⟨r1, r2, r3, r4⟩ := rest_x all a2 k (by omega) hb
          obtain ⟨q, eq, rfl⟩ := sw_x hC (k := k) hk' r1 r2
          obtain ⟨⟨q1, q2⟩, eq', hq, hq64⟩ := sw_m hC m2 m3 (k := k) hk' (rest := all ^^^ 2 ^ k) (by omega)
          cases hq
          have ho := onesS_le' (all ^^^ 2 ^ k) (by omega)
          have hp : 2 ^ onesS (all ^^^ 2 ^ k) ≤ 256 := Nat.le_trans (Nat.pow_le_pow_right (by decide) ho) (by decide)
          have hp64 : 2 ^ onesS (all ^^^ 2 ^ k) < 65 := by
            rw [← many_2 _ r1]
            exact man_le _ r1
          rw [show nI (b1 true) = 1 from rfl, if_neg (by decide), if_neg (by decide), r4, eq, bp_s, X_bits _ (by omega), bp_s, eq', b2_s, many_2 _ r1, li_sh _ (by omega), li_s _ (by omega), li_s _ hp64, kd_ob hx.1, X_fra hx.1 hx.2.1 n (by omega) (by omega) (Nat.two_pow_pos _), bd_s, M_low τ n (by omega) (by omega) (Nat.two_pow_pos _), bp_s]
          exact W2_ret (fin_op hC (Xq.rf _ _ _) m1 hC.fl rfl)
end
