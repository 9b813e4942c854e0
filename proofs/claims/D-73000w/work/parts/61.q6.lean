/-! QUERIES: stoppers, price -/
set_option maxRecDepth 100000
/-- who can be sent to a quarrel -/
def freeS (R S : Nat → Nat) (q : Nat) : Nat := itN (fun m s => s ||| if 0 < R (29 + 4 * m) ∧ S m = 0 ∧ m ≠ R (80 + 5 * q) ∧ m ≠ R (81 + 5 * q) then 2 ^ m else 0) (R 3) 0 0
theorem freeS_bit (R S : Nat → Nat) (q i : Nat) : (freeS R S q).testBit i = decide (i < R 3 ∧ 0 < R (29 + 4 * i) ∧ S i = 0 ∧ i ≠ R (80 + 5 * q) ∧ i ≠ R (81 + 5 * q)) := itN_sel (fun m => 0 < R (29 + 4 * m) ∧ S m = 0 ∧ m ≠ R (80 + 5 * q) ∧ m ≠ R (81 + 5 * q)) (R 3) i
def priceS (R : Nat → Nat) (u : Nat) : Nat := itN (fun m n => n + b1 (u.testBit m) * (R (29 + 4 * m) - 1)) (R 3) 0 0
/-- all in u can be hired -/
def hirB (R : Nat → Nat) (u : Nat) : Prop := u < 64 ∧ ∀ i, u.testBit i = true → i < R 3 ∧ 0 < R (29 + 4 * i)
def hirK (S : Nat → Nat) (pl u k : Nat) : Nat → Nat := fun j => if j < k ∧ u.testBit j = true then pl + 1 else S j
/-- one more set tried -/
def stepF (R S : Nat → Nat) (q : Nat) (k : Nat) (o : Option Nat) : Option Nat :=
  if k &&& (freeS R S q ^^^ 4294967295) = 0 ∧ (∀ m, o = some m → nI (priceS R k) < nI (priceS R m)) ∧ zI (TO R (hirK S (R (82 + 5 * q)) k (R 3)) none 0 q none 0).en = 0 then some k else o
section
variable {x mo : Nat} {σ sx s0 sm : St} {w : Nat → Nat → Nat} {R S T : Nat → Nat} {pl : Option Nat} {oth : Nat}
theorem freeS_lt (hw : WF R) (q : Nat) : freeS R S q < 2 ^ R 3 := by
  refine itN_inv (K := R 3) (fun k b => b < 2 ^ R 3) (fun k b hk hb => ?_) (R 3) 0 _ (by omega) (Nat.two_pow_pos _)
  refine Nat.or_lt_two_pow hb ?_
  split
  · exact pow_le_of hk
  · exact Nat.two_pow_pos _
theorem pow6 (hw : WF R) : 2 ^ R 3 ≤ 64 := Nat.le_trans (Nat.pow_le_pow_right (by decide) hw.2.2.2.2.1) (by decide)
theorem X_free {q : Nat} (h : QC σ x w R S) (hq : q < R 5) : sX1_free σ x (nI q) = some (nI (freeS R S q)) := by
  have hw := h.wf
  have h3 := hw.2.2.2.2.1
  have h5 := hw.2.2.2.2.2.2.1
  unfold sX1_free freeS
  obtain ⟨hl, hb⟩ := loop_FU (fun n b k => sX1_free_L4 σ x (nI q) n (nI b) k) (fun m s => s ||| if 0 < R (29 + 4 * m) ∧ S m = 0 ∧ m ≠ R (80 + 5 * q) ∧ m ≠ R (81 + 5 * q) then 2 ^ m else 0) nI (R 3) (fun k b => True) (by omega) 0 trivial (fun n k b hk _ => by
      have h9 := (hw.2.2.2.2.2.2.2.2.2.1 k hk).2.2.2
      have hS := h.tb.1 k (by omega)
      obtain ⟨a1, a2⟩ := X_quarOf (p := k) h (by omega)
      have l1 : (1 : Int32) <<< (nI k &&& 31) = nI (2 ^ k) := nI_shl1 (by omega)
      rw [sX1_free_L4, h.xd.k5, X_people h.xd h.xt, bp_s, if_neg (nI_ge hk (by omega)), h.xd.r1001, h.xt.i10, h.xt.pg hw hk, bp_s, h.xt.p69 hw hk, h.xd.r1002, h.xd.s1.r1036, h.xd.s1.l h.sc (by omega), h.xd.k5, a1, bp_s, X_has (by omega) (by omega), bp_s, quarS_bit, l1, nI_1, iteP (oI_l (by omega)), iteP (oI_l (by omega))]
      by_cases c1 : R (29 + 4 * k) = 0
      · rw [if_pos c1, bp_s, if_neg (by omega), show (0 : Int32) = nI 0 from rfl, nI_or]
      · rw [if_neg c1]
        by_cases c2 : S k = 0
        · rw [if_pos c2]
          by_cases c3 : R (80 + 5 * q) = k ∨ R (81 + 5 * q) = k
          · rw [show decide (q < R 5 ∧ (R (80 + 5 * q) = k ∨ R (81 + 5 * q) = k)) = true from decide_eq_true ⟨hq, c3⟩, if_neg b1t, bp_s, if_neg (by omega), show (0 : Int32) = nI 0 from rfl, nI_or]
          · rw [show decide (q < R 5 ∧ (R (80 + 5 * q) = k ∨ R (81 + 5 * q) = k)) = false from decide_eq_false (fun e => c3 e.2), if_pos b1f, bp_s, if_pos (by omega), nI_or]
        · rw [if_neg c2, bp_s, if_neg (by omega), show (0 : Int32) = nI 0 from rfl, nI_or]) (fun k b hk hb => trivial) (fun n b _ => by
      rw [sX1_free_L4, h.xd.k5, X_people h.xd h.xt, bp_s, if_pos (nI_le (Nat.le_refl _) (by omega))])
  have hl' : sX1_free_L4 σ x (nI q) FU 0 0 = _ := hl
  rw [hl', bp_s]
theorem priceS_le (hw : WF R) (u : Nat) : priceS R u ≤ 200 := by
  have h3 := hw.2.2.2.2.1
  have : priceS R u ≤ 21 * R 3 := itN_inv (K := R 3) (fun k b => b ≤ 21 * k) (fun k b hk hb => by
    have h9 := (hw.2.2.2.2.2.2.2.2.2.1 k hk).2.2.2
    show b + b1 (u.testBit k) * (R (29 + 4 * k) - 1) ≤ 21 * (k + 1)
    cases u.testBit k <;> simp [b1] <;> omega) (R 3) 0 0 (by omega) (by omega)
  omega
theorem X_price {u : Nat} (h : QC σ x w R S) (hu : hirB R u) : sX1_priceOf σ x (nI u) = some (nI (priceS R u)) := by
  have hw := h.wf
  have h3 := hw.2.2.2.2.1
  have hu6 := hu.1
  unfold sX1_priceOf priceS
  obtain ⟨hl, hb⟩ := loop_FU (fun n b k => sX1_priceOf_L4 σ x (nI u) n (nI b) k) (fun m n => n + b1 (u.testBit m) * (R (29 + 4 * m) - 1)) nI (R 3) (fun k b => True) (by omega) 0 trivial (fun n k b hk _ => by
      rw [sX1_priceOf_L4, h.xd.k5, X_people h.xd h.xt, bp_s, if_neg (nI_ge hk (by omega)), X_has (by omega) (by omega), bp_s, h.xd.r1001, h.xt.i10, h.xt.pg hw hk, bp_s, h.xt.p69 hw hk, nI_1]
      cases hb : u.testBit k
      · rw [if_pos b1f, bp_s, show (0 : Int32) = nI 0 from rfl, nI_add]; simp [b1]
      · rw [if_neg b1t, bp_s, oI_p (hu.2 k hb).2, nI_add]; simp [b1]) (fun k b hk hb => trivial) (fun n b _ => by
      rw [sX1_priceOf_L4, h.xd.k5, X_people h.xd h.xt, bp_s, if_pos (nI_le (Nat.le_refl _) (by omega))])
  have hl' : sX1_priceOf_L4 σ x (nI u) FU 0 0 = _ := hl
  rw [hl', bp_s]
theorem M_p3 {α : Type} {m : Nat} (h : MC σ mo R S) (hm : m < 6) (k : Int32 → Option α) : (gR σ 1011 (some mo) fun v => lI σ 1 v (26 + 4 * nI m + 3) k) = k (nI (R (29 + 4 * m))) := by
  rw [M_r1011 h.1, show (26 : Int32) = nI 26 from rfl, show (4 : Int32) = nI 4 from rfl, show (3 : Int32) = nI 3 from rfl, pk_mul, nI_add, nI_add, M_l3 h.1 (by omega), h.2.1 _ (by omega), show 26 + 4 * m + 3 = 29 + 4 * m by omega]
theorem M_price {u : Nat} (h : MC σ mo R S) (hw : WF R) (hu : hirB R u) : sX2_priceOf σ mo (nI u) = some (nI (priceS R u)) := by
  have h3 := hw.2.2.2.2.1
  have hu6 := hu.1
  unfold sX2_priceOf priceS
  obtain ⟨hl, hb⟩ := loop_FU (fun n b k => sX2_priceOf_L4 σ mo (nI u) n (nI b) k) (fun m n => n + b1 (u.testBit m) * (R (29 + 4 * m) - 1)) nI (R 3) (fun k b => True) (by omega) 0 trivial (fun n k b hk _ => by
      rw [sX2_priceOf_L4, M_n3 h, if_neg (nI_ge hk (by omega)), M_hasBit (by omega) (by omega), bp_s, M_p3 h (by omega), nI_1]
      cases hb : u.testBit k
      · rw [if_pos b1f, bp_s, show (0 : Int32) = nI 0 from rfl, nI_add]; simp [b1]
      · rw [if_neg b1t, bp_s, show (1 : Int32) = nI 1 from rfl, pk_sub (by have := (hu.2 k hb).2; omega), nI_add]; simp [b1]) (fun k b hk hb => trivial) (fun n b _ => by
      rw [sX2_priceOf_L4, M_n3 h, if_pos (nI_le (Nat.le_refl _) (by omega))])
  have hl' : sX2_priceOf_L4 σ mo (nI u) FU 0 0 = _ := hl
  rw [hl', bp_s]
theorem hirB_of (hw : WF R) {q k : Nat} (hk : k < 2 ^ 32) (h : k &&& (freeS R S q ^^^ 4294967295) = 0) : hirB R k := by
  have h6 := pow6 hw
  have hf := freeS_lt (S := S) hw q
  refine ⟨by have := sub_le hk h; omega, fun i hi => ?_⟩
  have := sub_of hk h i hi
  rw [freeS_bit, decide_eq_true_eq] at this
  exact ⟨this.1, this.2.1⟩
theorem hirK_0 (S : Nat → Nat) (pl u : Nat) : hirK S pl u 0 = S := by
  funext j
  exact if_neg (by omega)
theorem hirK_s (S : Nat → Nat) (pl u k : Nat) : (if u.testBit k = true then upA (hirK S pl u k) k (pl + 1) else hirK S pl u k) = hirK S pl u (k + 1) := by
  funext j
  unfold hirK
  by_cases hb : u.testBit k = true
  · rw [if_pos hb]
    unfold upA
    by_cases hj : j = k
    · rw [if_pos hj, if_pos ⟨by omega, by rw [hj]; exact hb⟩]
    · rw [if_neg hj]
      exact iteP (propext (show (j < k ∧ u.testBit j = true) ↔ (j < k + 1 ∧ u.testBit j = true) by constructor <;> rintro ⟨a, b⟩ <;> exact ⟨by omega, b⟩)) _ _
  · rw [if_neg hb]
    refine iteP (propext ⟨fun ⟨a, b⟩ => ⟨by omega, b⟩, fun ⟨a, b⟩ => ⟨?_, b⟩⟩) _ _
    rcases Nat.lt_or_ge j k with h | h
    · exact h
    · exact absurd b (by rw [show j = k by omega]; exact hb)
theorem hirK_tb (hb : TB S) {pl u k : Nat} (hp : pl < 6) (hk : k ≤ 6) : TB (hirK S pl u k) := by
  refine ⟨fun m hm => ?_, ?_⟩
  · unfold hirK
    split
    · omega
    · exact hb.1 m hm
  · unfold hirK
    rw [if_neg (by omega)]
    exact hb.2
/-- the sent ones, at the component, at the model -/
theorem X_send {q u : Nat} (h : QC σ x w R S) (hc : SC σ (w 0 2) S) (hf : FL σ x none 0 false) (hq : q < R 5) (hu : u < 64) : ∃ τ, sX1_stopsBy_L58 x (nI q) (nI u) FU σ 0 = some τ ∧ Xq x (w 0 2) σ τ ∧ SC τ (w 0 2) (hirK S (R (82 + 5 * q)) u (R 3)) ∧ FL τ x none 0 false := by
  have hw := h.wf
  have h3 := hw.2.2.2.2.1
  have h1 := hw.2.2.1
  obtain ⟨u1, u2, u3, u4, u5, u6, u7⟩ := hw.2.2.2.2.2.2.2.2.2.2.2.1 q hq
  have hl := Wp_loop (fun n (b : St) k => sX1_stopsBy_L58 x (nI q) (nI u) n b (nI k)) (R 3) (fun k b => Xq x (w 0 2) σ b ∧ SC b (w 0 2) (hirK S (R (82 + 5 * q)) u k) ∧ FL b x none 0 false) (Q := fun τ => Xq x (w 0 2) σ τ ∧ SC τ (w 0 2) (hirK S (R (82 + 5 * q)) u (R 3)) ∧ FL τ x none 0 false) (by omega) (fun n k b hk hi hn => by
    obtain ⟨i1, i2, i3⟩ := hi
    have bq := h.xq i1
    rw [sX1_stopsBy_L58, bq.xd.k5, X_people bq.xd bq.xt, bp_s]
    by_cases hkk : k = R 3
    · rw [if_pos (nI_le (by omega) (by omega))]
      exact ⟨_, rfl, i1, by rw [← hkk]; exact i2, i3⟩
    · have hk' : k < R 3 := by omega
      rw [if_neg (nI_ge (by omega) (by omega)), X_has (by omega) (by omega), bp_s, bq.xd.r1003, bq.xd.s2.r1036, bq.xd.r1001, bq.xt.i10, bq.xt.qg hw hq, bp_s, bq.xt.q73 hq, bq.xd.s2.t1 (by omega), by8 _ (by omega), nI_1]
      have hs := hirK_s S (R (82 + 5 * q)) u k
      cases hb : u.testBit k
      · rw [if_pos b1f, bp_s]
        rw [hb, if_neg (by decide)] at hs
        exact hn hk' b ⟨i1, by rw [← hs]; exact i2, i3⟩
      · rw [if_neg b1t, bp_s]
        rw [hb, if_pos rfl] at hs
        exact hn hk' _ ⟨i1.at', by rw [← hs]; exact SC.sent bq.xd.s2 i2 (by omega) (by omega), i3⟩) 0 (Nat.zero_le _) σ ⟨Xq.rf .., by rw [hirK_0]; exact hc, hf⟩
  exact hl
theorem M_send {q u : Nat} (h : MC σ mo R S) (ht : TRL σ mo R S 0 none) (hw : WF R) (hq : q < R 5) (hu : u < 64) : ∃ τ, sX2_stoppersOf_L142 mo (80 + 5 * nI q) (nI u) FU σ 0 = some τ ∧ Mq mo σ τ ∧ TRL τ mo R (hirK S (R (82 + 5 * q)) u (R 3)) 0 none := by
  have h3 := hw.2.2.2.2.1
  have h5 := hw.2.2.2.2.2.2.1
  have hl := Wp_loop (fun n (b : St) k => sX2_stoppersOf_L142 mo (80 + 5 * nI q) (nI u) n b (nI k)) (R 3) (fun k b => Mq mo σ b ∧ TRL b mo R (hirK S (R (82 + 5 * q)) u k) 0 none) (Q := fun τ => Mq mo σ τ ∧ TRL τ mo R (hirK S (R (82 + 5 * q)) u (R 3)) 0 none) (by omega) (fun n k b hk hi hn => by
    obtain ⟨i1, i2⟩ := hi
    have bm := h.mq i1
    rw [sX2_stoppersOf_L142, M_n3 bm]
    by_cases hkk : k = R 3
    · rw [if_pos (nI_le (by omega) (by omega))]
      exact ⟨_, rfl, i1, by rw [← hkk]; exact i2⟩
    · have hk' : k < R 3 := by omega
      rw [if_neg (nI_ge (by omega) (by omega)), M_hasBit (by omega) (by omega), bp_s, M_r1016 bm.1, M_q2 bm (by omega), nI_1, M_t8 bm.1 (by omega), nI_1]
      have hs := hirK_s S (R (82 + 5 * q)) u k
      cases hb : u.testBit k
      · rw [if_pos b1f, bp_s]
        rw [hb, if_neg (by decide)] at hs
        exact hn hk' b ⟨i1, by rw [← hs]; exact i2⟩
      · rw [if_neg b1t, bp_s]
        rw [hb, if_pos rfl] at hs
        exact hn hk' _ ⟨i1.aI (by omega) (by omega), by rw [← hs]; exact M_sent i2 (by omega)⟩) 0 (Nat.zero_le _) σ ⟨Mq.rf .., by rw [hirK_0]; exact ht⟩
  exact hl
theorem and_Mz {a b : Nat} (ha : a < 2147483648) : (nI a &&& (nI b ^^^ -1) = 0) = (a &&& (b ^^^ 4294967295) = 0) := by
  have : a &&& (b ^^^ 4294967295) ≤ a := Nat.and_le_left
  rw [show (-1 : Int32) = nI 4294967295 from rfl, nI_xor, nI_and, show (0 : Int32) = nI 0 from rfl, nI_eq' (by omega) (by omega)]
def bestS (R S : Nat → Nat) (q : Nat) : Option Nat := itN (stepF R S q) (freeS R S q + 1) 0 none
theorem bestS_all (hw : WF R) (q : Nat) : itN (stepF R S q) (2 ^ R 3) 0 none = bestS R S q := by
  have h6 := pow6 hw
  have hf := freeS_lt (S := S) hw q
  rw [show 2 ^ R 3 = (freeS R S q + 1) + (2 ^ R 3 - (freeS R S q + 1)) by omega, itN_add]
  refine itN_id _ _ _ _ (fun j s h1 h2 => ?_)
  unfold stepF
  rw [if_neg]
  rintro ⟨a, -⟩
  have := sub_le (a := j) (b := freeS R S q) (by omega) a
  omega
def hirO (R : Nat → Nat) (o : Option Nat) : Prop := ∀ m, o = some m → hirB R m
theorem hirO_lt {o : Option Nat} (h : hirO R o) : oLt o 256 := fun m hm => by have := (h m hm).1; omega
theorem stepF_hir (hw : WF R) {q k : Nat} {o : Option Nat} (hk : k < 2 ^ 32) (ho : hirO R o) : hirO R (stepF R S q k o) := by
  unfold stepF
  split
  · next h => intro m hm; cases hm; exact hirB_of hw hk h.1
  · exact ho
theorem bestS_hir (hw : WF R) (q : Nat) : hirO R (bestS R S q) := by
  have h6 := pow6 hw
  have hf := freeS_lt (S := S) hw q
  exact itN_inv (K := freeS R S q + 1) (fun _ o => hirO R o) (fun k o hk ho => stepF_hir hw (by omega) ho) _ 0 none (by omega) (fun m hm => by cases hm)
theorem X_try {q k : Nat} {v : Int32} (h : QC σ x w R S) (hf : FL σ x none 0 false) (hq : q < R 5) (hk : k < 64) : ∃ τ, (kd σ x 5 <| bd (sX1_tries σ x) fun s12 v13 => bp (sX1_stopsBy_L58 x (nI q) (nI k) FU s12 0) fun (s36 : St) => gR s36 1003 (some x) fun v37 => kd s36 x 5 <| bd (sX1_brawlsOn s36 x v37 (nI q)) fun s39 v40 => if v40 = 0 then some (s39, nI k) else some (s39, v)) = some (τ, if zI (TO R (hirK S (R (82 + 5 * q)) k (R 3)) none 0 q none 0).en = 0 then nI k else v) ∧ Xq x (w 0 2) σ τ ∧ FL τ x none 0 false := by
  have hw := h.wf
  obtain ⟨u1, u2, u3, u4, u5, u6, u7⟩ := hw.2.2.2.2.2.2.2.2.2.2.2.1 q hq
  obtain ⟨τ, e, x1, q1, c1, f1⟩ := X_tries h hf
  obtain ⟨υ, e', x2, c2, f2⟩ := X_send q1 c1 f1 hq hk
  have x3 := x1.tr' x2
  have q3 := h.xq x3
  obtain ⟨ρ, e3, x4, q4, c4, f4, -⟩ := X_on (dr := 0) q3 q3.xd.s2 c2 (hirK_tb h.tb (by have := hw.2.2.1; omega) hw.2.2.2.2.1) f2 np (by decide) (fun q => by cases q) hq
  refine ⟨ρ, ?_, x3.tr' x4, f4⟩
  have eb : bB false = none := rfl
  rw [eb] at e3
  rw [h.xd.k5, e, bd_s, e', bp_s, q3.xd.r1003, q3.xd.k5, e3, bd_s]
  split <;> rfl
theorem M_try {q k : Nat} {v : Int32} (h : MC σ mo R S) (hw : WF R) (hb : TB S) (hq : q < R 5) (hk : k < 64) : ∃ τ, (kd σ mo 7 <| bp (sX2_asNow σ mo) fun s30 => bp (sX2_stoppersOf_L142 mo (80 + 5 * nI q) (nI k) FU s30 0) fun (s46 : St) => kd s46 mo 7 <| bp (sX2_runTold s46 mo (nI q)) fun s48 => gI s48 34 (some mo) fun v50 => if v50 = 0 then some (s48, nI k) else some (s48, v)) = some (τ, if zI (TO R (hirK S (R (82 + 5 * q)) k (R 3)) none 0 q none 0).en = 0 then nI k else v) ∧ Mq mo σ τ := by
  obtain ⟨u1, u2, u3, u4, u5, u6, u7⟩ := hw.2.2.2.2.2.2.2.2.2.2.2.1 q hq
  obtain ⟨τ, e, m1, m2, m3⟩ := M_now h hw
  obtain ⟨υ, e', n1, n2⟩ := M_send m2 m3 hw hq hk
  have m4 := m2.mq n1
  obtain ⟨ρ, e3, k1, k2, k3, k4, -⟩ := M_told m4 n2 hw (hirK_tb hb (by have := hw.2.2.1; omega) hw.2.2.2.2.1) hq
  refine ⟨ρ, ?_, m1.tr (n1.tr k1)⟩
  rw [M_kd h.1, e, bp_s, e', bp_s, M_kd m4.1, e3, bp_s, M_g34 k2.1, k4.1]
  split <;> rfl
theorem X_stopsBy {q : Nat} (h : QC σ x w R S) (hf : FL σ x none 0 false) (hq : q < R 5) : ∃ τ, sX1_stopsBy σ x (nI q) = some (τ, bI (bestS R S q)) ∧ Xq x (w 0 2) σ τ ∧ FL τ x none 0 false := by
  have hw := h.wf
  have h6 := pow6 hw
  have hfr := freeS_lt (S := S) hw q
  have hl := Wp_loop (fun n (b : St × Int32) k => sX1_stopsBy_L12 x (nI q) (nI (freeS R S q)) n b.1 b.2 (nI k)) (freeS R S q + 1) (fun k b => Xq x (w 0 2) σ b.1 ∧ FL b.1 x none 0 false ∧ ∃ o, b.2 = bI o ∧ hirO R o ∧ itN (stepF R S q) (freeS R S q + 1 - k) k o = bestS R S q) (Q := fun v => ∃ τ, v = (τ, bI (bestS R S q)) ∧ Xq x (w 0 2) σ τ ∧ FL τ x none 0 false) (by omega) (fun n k b hk hi hn => by
    obtain ⟨b, v⟩ := b
    obtain ⟨i1, i2, o, i3, i4, i5⟩ := hi
    dsimp only at i1 i2 i3 hn ⊢
    subst i3
    have bq := h.xq i1
    rw [sX1_stopsBy_L12]
    by_cases hkk : k = freeS R S q + 1
    · rw [if_pos (nI_lt (by omega) (by omega))]
      rw [hkk, Nat.sub_self] at i5
      exact ⟨_, rfl, b, by rw [← i5]; rfl, i1, i2⟩
    · have hk' : k < freeS R S q + 1 := by omega
      have hk6 : k < 64 := by omega
      rw [show freeS R S q + 1 - k = (freeS R S q + 1 - (k + 1)) + 1 by omega] at i5
      have i5' : itN (stepF R S q) (freeS R S q + 1 - (k + 1)) (k + 1) (stepF R S q k o) = bestS R S q := i5
      have hso := stepF_hir (S := S) (q := q) (k := k) hw (by omega) i4
      rw [if_neg (nI_nlt (by omega) (by omega)), iteP (and_Mz (by omega)), iteP (bI_e (hirO_lt i4)), nI_1]
      by_cases hc : k &&& (freeS R S q ^^^ 4294967295) = 0
      · rw [if_pos hc]
        obtain ⟨s1, e1, x1, f1⟩ := X_try (v := bI o) bq i2 hq hk6
        match o, i4 with
        | none, i4 =>
          rw [if_pos rfl, e1, b2_s]
          by_cases hz : zI (TO R (hirK S (R (82 + 5 * q)) k (R 3)) none 0 q none 0).en = 0
          · have : stepF R S q k none = some k := if_pos ⟨hc, fun m q => (by cases q), hz⟩
            rw [this] at i5' hso
            rw [if_pos hz]
            exact hn hk' (s1, _) ⟨i1.tr' x1, f1, some k, rfl, hso, i5'⟩
          · have : stepF R S q k none = none := if_neg (fun a => hz a.2.2)
            rw [this] at i5' hso
            rw [if_neg hz]
            exact hn hk' (s1, _) ⟨i1.tr' x1, f1, none, rfl, hso, i5'⟩
        | some m, i4 =>
          rw [if_neg (by simp)]
          show Wp (b2 (kd b x 5 <| bp (sX1_priceOf b x (nI k)) fun v45 => kd b x 5 <| bp (sX1_priceOf b x (nI m)) fun v48 => _) _) _
          rw [bq.xd.k5, X_price bq (hirB_of hw (by omega) hc), bp_s, bq.xd.k5, X_price bq (i4 m rfl), bp_s]
          by_cases hlt : nI (priceS R k) < nI (priceS R m)
          · rw [if_pos hlt, e1, b2_s]
            by_cases hz : zI (TO R (hirK S (R (82 + 5 * q)) k (R 3)) none 0 q none 0).en = 0
            · have : stepF R S q k (some m) = some k := if_pos ⟨hc, fun m' q => (by cases q; exact hlt), hz⟩
              rw [this] at i5' hso
              rw [if_pos hz]
              exact hn hk' (s1, _) ⟨i1.tr' x1, f1, some k, rfl, hso, i5'⟩
            · have : stepF R S q k (some m) = some m := if_neg (fun a => hz a.2.2)
              rw [this] at i5' hso
              rw [if_neg hz]
              exact hn hk' (s1, _) ⟨i1.tr' x1, f1, some m, rfl, hso, i5'⟩
          · have : stepF R S q k (some m) = some m := if_neg (fun a => hlt (a.2.1 m rfl))
            rw [this] at i5' hso
            rw [if_neg hlt, b2_s]
            exact hn hk' (b, _) ⟨i1, i2, some m, rfl, hso, i5'⟩
      · have : stepF R S q k o = o := if_neg (fun a => hc a.1)
        rw [this] at i5' hso
        rw [if_neg hc, b2_s]
        exact hn hk' (b, _) ⟨i1, i2, o, rfl, hso, i5'⟩) 0 (Nat.zero_le _) (σ, bI none) ⟨Xq.rf .., hf, none, rfl, fun m hm => (by cases hm), rfl⟩
  obtain ⟨v, e, τ, rfl, x1, f1⟩ := hl
  refine ⟨τ, ?_, x1, f1⟩
  have e' : sX1_stopsBy_L12 x (nI q) (nI (freeS R S q)) FU σ (-2) 0 = some (τ, bI (bestS R S q)) := e
  unfold sX1_stopsBy
  rw [h.xd.k5, X_free h hq, bp_s, e', b2_s]
theorem M_stoppersOf {q : Nat} (h : MC σ mo R S) (hw : WF R) (hb : TB S) (hq : q < R 5) : ∃ τ, sX2_stoppersOf σ mo (nI q) = some (τ, bI (bestS R S q)) ∧ Mq mo σ τ := by
  have h6 := pow6 hw
  have h3 := hw.2.2.2.2.1
  have h5 := hw.2.2.2.2.2.2.1
  have hfr := freeS_lt (S := S) hw q
  obtain ⟨u1, u2, u3, u4, u5, u6, u7⟩ := hw.2.2.2.2.2.2.2.2.2.2.2.1 q hq
  have hl := Wp_loop (fun n (b : St × Int32) k => sX2_stoppersOf_L90 mo (nI q) (80 + 5 * nI q) (nI (freeS R S q)) n b.1 b.2 (nI k)) (2 ^ R 3) (fun k b => Mq mo σ b.1 ∧ ∃ o, b.2 = bI o ∧ hirO R o ∧ itN (stepF R S q) (2 ^ R 3 - k) k o = bestS R S q) (Q := fun v => ∃ τ, v = (τ, bI (bestS R S q)) ∧ Mq mo σ τ) (by omega) (fun n k b hk hi hn => by
    obtain ⟨b, v⟩ := b
    obtain ⟨i1, o, i3, i4, i5⟩ := hi
    dsimp only at i1 i3 hn ⊢
    subst i3
    have bm := h.mq i1
    have l1 : (1 : Int32) <<< (nI (R 3) &&& 31) = nI (2 ^ R 3) := nI_shl1 (by omega)
    rw [sX2_stoppersOf_L90, M_n3 bm, l1]
    by_cases hkk : k = 2 ^ R 3
    · rw [if_pos (nI_le (by omega) (by omega))]
      rw [hkk, Nat.sub_self] at i5
      exact ⟨_, rfl, b, by rw [← i5]; rfl, i1⟩
    · have hk' : k < 2 ^ R 3 := by omega
      have hk6 : k < 64 := by omega
      rw [show 2 ^ R 3 - k = (2 ^ R 3 - (k + 1)) + 1 by omega] at i5
      have i5' : itN (stepF R S q) (2 ^ R 3 - (k + 1)) (k + 1) (stepF R S q k o) = bestS R S q := i5
      have hso := stepF_hir (S := S) (q := q) (k := k) hw (by omega) i4
      rw [if_neg (nI_ge (by omega) (by omega)), iteP (and_Mz (by omega)), iteP (bI_l (hirO_lt i4)), nI_1]
      by_cases hc : k &&& (freeS R S q ^^^ 4294967295) = 0
      · rw [if_pos hc]
        obtain ⟨s1, e1, x1⟩ := M_try (v := bI o) bm hw hb hq hk6
        match o, i4 with
        | none, i4 =>
          rw [if_pos rfl, e1, b2_s]
          by_cases hz : zI (TO R (hirK S (R (82 + 5 * q)) k (R 3)) none 0 q none 0).en = 0
          · have : stepF R S q k none = some k := if_pos ⟨hc, fun m q => (by cases q), hz⟩
            rw [this] at i5' hso
            rw [if_pos hz]
            exact hn hk' (s1, _) ⟨i1.tr x1, some k, rfl, hso, i5'⟩
          · have : stepF R S q k none = none := if_neg (fun a => hz a.2.2)
            rw [this] at i5' hso
            rw [if_neg hz]
            exact hn hk' (s1, _) ⟨i1.tr x1, none, rfl, hso, i5'⟩
        | some m, i4 =>
          rw [if_neg (by simp)]
          show Wp (b2 (kd b mo 7 <| bp (sX2_priceOf b mo (nI k)) fun v45 => kd b mo 7 <| bp (sX2_priceOf b mo (nI m)) fun v48 => _) _) _
          rw [M_kd bm.1, M_price bm hw (hirB_of hw (by omega) hc), bp_s, M_kd bm.1, M_price bm hw (i4 m rfl), bp_s]
          by_cases hlt : nI (priceS R k) < nI (priceS R m)
          · rw [if_pos hlt, e1, b2_s]
            by_cases hz : zI (TO R (hirK S (R (82 + 5 * q)) k (R 3)) none 0 q none 0).en = 0
            · have : stepF R S q k (some m) = some k := if_pos ⟨hc, fun m' q => (by cases q; exact hlt), hz⟩
              rw [this] at i5' hso
              rw [if_pos hz]
              exact hn hk' (s1, _) ⟨i1.tr x1, some k, rfl, hso, i5'⟩
            · have : stepF R S q k (some m) = some m := if_neg (fun a => hz a.2.2)
              rw [this] at i5' hso
              rw [if_neg hz]
              exact hn hk' (s1, _) ⟨i1.tr x1, some m, rfl, hso, i5'⟩
          · have : stepF R S q k (some m) = some m := if_neg (fun a => hlt (a.2.1 m rfl))
            rw [this] at i5' hso
            rw [if_neg hlt, b2_s]
            exact hn hk' (b, _) ⟨i1, some m, rfl, hso, i5'⟩
      · have : stepF R S q k o = o := if_neg (fun a => hc a.1)
        rw [this] at i5' hso
        rw [if_neg hc, b2_s]
        exact hn hk' (b, _) ⟨i1, o, rfl, hso, i5'⟩) 0 (Nat.zero_le _) (σ, bI none) ⟨Mq.rf .., none, rfl, fun m hm => (by cases hm), bestS_all hw q⟩
  obtain ⟨v, e, τ, rfl, x1⟩ := hl
  refine ⟨τ, ?_, x1⟩
  have e' : sX2_stoppersOf_L90 mo (nI q) (80 + 5 * nI q) (nI (freeS R S q)) FU σ (-2) 0 = some (τ, bI (bestS R S q)) := e
  obtain ⟨hf1, hf2⟩ := loop_FU (fun n b k => sX2_stoppersOf_L12 σ mo (80 + 5 * nI q) n (nI b) k) (fun m s => s ||| if 0 < R (29 + 4 * m) ∧ S m = 0 ∧ m ≠ R (80 + 5 * q) ∧ m ≠ R (81 + 5 * q) then 2 ^ m else 0) nI (R 3) (fun k b => True) (by omega) 0 trivial (fun n k b hk _ => by
      have h9 := (hw.2.2.2.2.2.2.2.2.2.1 k hk).2.2.2
      have hS := hb.1 k (by omega)
      have l1 : (1 : Int32) <<< (nI k &&& 31) = nI (2 ^ k) := nI_shl1 (by omega)
      have z0 : (nI (S k) = 0) = (S k = 0) := by rw [nI0, nI_eq' (by omega) (by omega)]
      rw [sX2_stoppersOf_L12, M_n3 h, if_neg (nI_ge hk (by omega)), M_kd h.1, M_canHire h hw hk, bp_s, M_r1013 h.1, M_l5 h.1 (by omega), h.2.2.1 k (by omega), M_q0 h (by omega), M_q1 h (by omega), l1, nI_1, iteP z0, iteP (nI_eq' (by omega) (by omega)), iteP (nI_eq' (by omega) (by omega))]
      by_cases c1 : R (29 + 4 * k) = 0
      · rw [if_pos c1, if_pos rfl, bp_s, if_neg (by omega), show (0 : Int32) = nI 0 from rfl, nI_or]
      · rw [if_neg c1, if_neg (by decide)]
        by_cases c2 : S k = 0
        · rw [if_pos c2]
          by_cases c3 : k = R (80 + 5 * q)
          · rw [if_pos c3, bp_s, if_neg (by omega), show (0 : Int32) = nI 0 from rfl, nI_or]
          · rw [if_neg c3]
            by_cases c4 : k = R (81 + 5 * q)
            · rw [if_pos c4, bp_s, if_neg (by omega), show (0 : Int32) = nI 0 from rfl, nI_or]
            · rw [if_neg c4, bp_s, if_pos (by omega), nI_or]
        · rw [if_neg c2, bp_s, if_neg (by omega), show (0 : Int32) = nI 0 from rfl, nI_or]) (fun k b hk hb => trivial) (fun n b _ => by
      rw [sX2_stoppersOf_L12, M_n3 h, if_pos (nI_le (Nat.le_refl _) (by omega))])
  have hf' : sX2_stoppersOf_L12 σ mo (80 + 5 * nI q) FU 0 0 = some (nI (freeS R S q)) := hf1
  unfold sX2_stoppersOf
  rw [hf', bp_s, e', b2_s]
theorem OP_stoppers (h : RL x mo sx sm) (v : Int32) : W2 (sX1_stoppers sx x v) (sX2_stoppers sm mo v) (Op x mo sx sm) := by
  unfold sX1_stoppers sX2_stoppers
  refine op_is h 1 (by decide) (h.isQ v) ?_
  intro w R S q hC hq e
  subst e
  obtain ⟨s1, e1, x1, f1⟩ := X_stopsBy hC.qc hC.fl hq
  obtain ⟨s2, e2, y1⟩ := M_stoppersOf hC.mc hC.qc.wf hC.qc.tb hq
  rw [hC.qc.xd.k5, e1, bd_s, M_kd hC.ms, e2, bd_s]
  exact fin_well hC x1 y1 f1 rfl
theorem OP_price (h : RL x mo sx sm) (v : Int32) : W2 (sX1_price sx x v) (sX2_price sm mo v) (Op x mo sx sm) := by
  unfold sX1_price sX2_price
  refine op_is h 1 (by decide) (h.isQ v) ?_
  intro w R S q hC hq e
  subst e
  obtain ⟨s1, e1, x1, f1⟩ := X_stopsBy hC.qc hC.fl hq
  obtain ⟨s2, e2, y1⟩ := M_stoppersOf hC.mc hC.qc.wf hC.qc.tb hq
  have hh := bestS_hir (S := S) hC.qc.wf q
  rw [hC.qc.xd.k5, e1, bd_s, M_kd hC.ms, e2, bd_s, iteP (bI_e (hirO_lt hh)), iteP (bI_g (hirO_lt hh))]
  generalize bestS R S q = o at hh
  have bq := hC.qc.xq x1
  have bm := hC.mc.mq y1
  match o, hh with
  | none, _ =>
    rw [if_pos rfl, if_neg (by simp)]
    exact fin_well hC x1 y1 f1 rfl
  | some m, hh =>
    rw [if_neg (by simp), if_pos (by simp)]
    show W2 (kd s1 x 5 <| bp (sX1_priceOf s1 x (nI m)) fun v17 => _) (kd s2 mo 7 <| bp (sX2_priceOf s2 mo (nI m)) fun v16 => _) _
    rw [bq.xd.k5, X_price bq (hh m rfl), bp_s, M_kd bm.1, M_price bm bq.wf (hh m rfl), bp_s]
    exact fin_well hC x1 y1 f1 rfl
end
