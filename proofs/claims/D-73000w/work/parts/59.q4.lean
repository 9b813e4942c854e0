/-! QUERIES: hour, longest, moor; what is tried: hires, bricks -/
set_option maxRecDepth 100000
/-- inside a query: both heaps as they began but for scratch; no flag is up -/
def IQ (x mo : Nat) (w : Nat → Nat → Nat) (sx s0 a b : St) : Prop := Xq x (w 0 2) sx a ∧ Mq mo s0 b ∧ FL a x none 0 false
section
variable {x mo : Nat} {σ sx s0 sm : St} {w : Nat → Nat → Nat} {R S T : Nat → Nat} {pl : Option Nat} {oth : Nat}
theorem CT.iq0 (h : CT x mo sx s0 sm w R S) : IQ x mo w sx s0 sx s0 := ⟨Xq.rf .., Mq.rf .., h.fl⟩
theorem fin_wellI {s1 s2 : St} (h : CT x mo sx s0 sm w R S) (hi : IQ x mo w sx s0 s1 s2) {v u : Int32} (hv : v = u) : W2 (kd s1 x 5 <| bd (sX1_well s1 x v) fun s v => some (s, v)) (some (s2, u)) (Op x mo sx sm) := fin_well h hi.1 hi.2.1 hi.2.2 hv
theorem OP_hour (h : RL x mo sx sm) (v : Int32) : W2 (sX1_hour sx x v) (sX2_hour sm mo v) (Op x mo sx sm) := by
  unfold sX1_hour sX2_hour
  refine op_is h 1 (by decide) (h.isQ v) ?_
  intro w R S q hC hq e
  subst e
  have hw := hC.qc.wf
  have h6 := hw.2.2.1
  have h5 := hw.2.2.2.2.2.2.1
  obtain ⟨u1, u2, u3, u4, u5, u6, u7⟩ := hw.2.2.2.2.2.2.2.2.2.2.2.1 q hq
  obtain ⟨τ, e, m1, m2, m3⟩ := hC.now
  rw [M_kd hC.ms, e, bp_s]
  refine W2_lcc (R := fun a b => IQ x mo w sx (gd sm mo) a b) (W2_loop (fun n (b : St) k => sX1_hour_L16 x (nI q) n b (nI k)) (fun n (b : St) k => sX2_hour_L24 mo (nI q) n b (nI k)) 60 (fun _ a b => IQ x mo w sx (gd sm mo) a b ∧ TRL b mo R S 0 none) (by omega) (fun n m k b c hk hi hs => ?_) 0 (Nat.zero_le _) sx τ ⟨⟨Xq.rf .., m1, hC.fl⟩, m3⟩) (fun a b hP => by
      have ho := hP.1.xo hC.qc.xd.1
      exact fin_wellI hC hP rfl)
  obtain ⟨⟨i1, i2, i3⟩, i5⟩ := hi
  have bq := hC.qc.xq i1
  have bm := hC.mc.mq i2
  rw [sX1_hour_L16, sX2_hour_L24]
  by_cases hkk : k = 60
  · subst hkk
    rw [if_pos (by decide), if_pos (by decide)]
    exact W2_ret (LC_r ⟨i1, i2, i3⟩)
  · have hk' : k < 60 := by omega
    have hn : ¬ (59 : Int32) < nI k := nI_nlt (a := 59) (b := k) (by omega) (by omega)
    obtain ⟨υ, e', n1, n2, n3, n4, n5⟩ := M_rn0 bm i5 hw hC.qc.tb hq (p := R (82 + 5 * q)) (fr := k) (by omega) hk'
    obtain ⟨s1, e1, x1, x2, x3, x4, x5⟩ := X_br0 bq bq.xd.s1 bq.sc bq.tb i3 hq (p := R (82 + 5 * q)) (fr := k) (by omega) hk'
    rw [if_neg hn, if_neg hn, bq.xd.r1002, bq.xd.r1001, bq.xt.i10, bq.xt.qg hw hq, bp_s, bq.xt.q73 hq, bq.xd.k5, e1, bd_s, M_q2 bm (by omega), M_kd bm.1, e', bp_s, M_g34 n2.1, n4, nI_1]
    unfold sX1_isWon
    have hnx := i1.tr' x1
    have hnm := i2.tr n1
    by_cases hz : zI (BO R S none 0 q (R (82 + 5 * q)) k none 0).en ≤ 0
    · rw [if_pos hz, if_pos hz, bp_s, if_pos rfl]
      exact hs hk' s1 υ ⟨⟨hnx, hnm, x4⟩, n3⟩
    · rw [if_neg hz, if_neg hz, bp_s, if_neg (by decide), x2.xd.k5, X_well x2.xd.1.1 x2.xd.1.2.1, bd_s]
      exact W2_ret (LC_l (fin_op hC hnx hnm x4 rfl))
theorem OP_longest (h : RL x mo sx sm) (v : Int32) : W2 (sX1_longest sx x v) (sX2_longest sm mo v) (Op x mo sx sm) := by
  unfold sX1_longest sX2_longest
  refine op_is h 1 (by decide) (h.isQ v) ?_
  intro w R S q hC hq e
  subst e
  have hw := hC.qc.wf
  have h6 := hw.2.2.1
  have h5 := hw.2.2.2.2.2.2.1
  obtain ⟨u1, u2, u3, u4, u5, u6, u7⟩ := hw.2.2.2.2.2.2.2.2.2.2.2.1 q hq
  obtain ⟨τ, e, m1, m2, m3⟩ := hC.now
  rw [M_kd hC.ms, e, bp_s]
  refine W2_b2 (P := fun a b => IQ x mo w sx (gd sm mo) a.1 b.1 ∧ a.2 = b.2) (W2_loop (fun n (b : St × Int32 × Int32) k => sX1_longest_L21 x (nI q) n b.1 b.2.1 b.2.2 (nI k)) (fun n (b : St × Int32 × Int32) k => sX2_longest_L29 mo (nI q) n b.1 b.2.1 b.2.2 (nI k)) (R 1) (fun _ a b => IQ x mo w sx (gd sm mo) a.1 b.1 ∧ TRL b.1 mo R S 0 none ∧ a.2.1 = b.2.1 ∧ ((a.2.2 = 9999 ∧ b.2.2 = 60) ∨ (∃ z : Int, -2 ≤ z ∧ z < 60 ∧ a.2.2 = zI z ∧ b.2.2 = zI z))) (by omega) (fun n m k b c hk hi hs => ?_) 0 (Nat.zero_le _) (sx, 0, -1) (τ, 0, -1) ⟨⟨Xq.rf .., m1, hC.fl⟩, m3, rfl, Or.inr ⟨-1, by decide, by decide, rfl, rfl⟩⟩) (fun a c b d hP => fin_wellI hC hP.1 hP.2)
  obtain ⟨b, u, v⟩ := b
  obtain ⟨c, u', v'⟩ := c
  obtain ⟨⟨i1, i2, i3⟩, i5, i4, i6⟩ := hi
  dsimp only at i1 i2 i3 i4 i5 i6 hs ⊢
  subst i4
  have bq := hC.qc.xq i1
  have bm := hC.mc.mq i2
  rw [sX1_longest_L21, sX2_longest_L29, bq.xd.k5, X_places bq.xd bq.xt, bp_s, M_n1 bm]
  by_cases hkk : k = R 1
  · rw [if_pos (nI_le (by omega) (by omega)), if_pos (nI_le (by omega) (by omega))]
    exact W2_ret ⟨⟨i1, i2, i3⟩, rfl⟩
  · have hk' : k < R 1 := by omega
    obtain ⟨υ, e', n1, n2, n3, n4, n5⟩ := M_rn0 bm i5 hw hC.qc.tb hq (p := k) (fr := R (83 + 5 * q)) (by omega) (by omega)
    obtain ⟨s1, e1, x1, x2, x3, x4, x5⟩ := X_br0 bq bq.xd.s1 bq.sc bq.tb i3 hq (p := k) (fr := R (83 + 5 * q)) (by omega) (by omega)
    have hrg := BO_rg (T := S) (pl := none) (oth := 0) (B := none) (dr := 0) (q := q) (p := k) (fr := R (83 + 5 * q)) hw (by omega)
    rw [if_neg (nI_ge (by omega) (by omega)), if_neg (nI_ge (by omega) (by omega)), bq.xd.r1002, bq.xd.r1001, bq.xt.i10, bq.xt.qg hw hq, bp_s, bq.xt.q74 hq, bq.xd.k5, e1, bd_s, M_q3 bm (by omega), M_kd bm.1, e', bp_s, M_g34 n2.1, n4, M_g35 n2.1, n5, g7_5 x2.xd.1.1, x5, nI_1]
    generalize BO R S none 0 q k (R (83 + 5 * q)) none 0 = O at hrg
    have hnx := i1.tr' x1
    have hnm := i2.tr n1
    have e2 : (zI O.en = -2) = (O.en = -2) := zI_eq (b := -2) (by omega) (by omega) (by omega) (by omega)
    by_cases hz : zI O.en = -2
    · rw [if_pos hz, if_pos hz, bp_s, bp_s]
      rcases i6 with ⟨rfl, rfl⟩ | ⟨z, z1, z2, rfl, rfl⟩
      · rw [if_neg (by decide), if_neg (by decide)]
        exact hs hk' (s1, _, _) (υ, _, _) ⟨⟨hnx, hnm, x4⟩, n3, rfl, Or.inl ⟨rfl, rfl⟩⟩
      · have c1 : zI z < 9999 := by
          rw [show (9999 : Int32) = zI 9999 from rfl, zI_lt (by omega) (by omega) (by omega) (by omega)]
          omega
        have c2 : zI z < 60 := by
          rw [show (60 : Int32) = zI 60 from rfl, zI_lt (by omega) (by omega) (by omega) (by omega)]
          omega
        rw [if_pos c1, if_pos c2]
        exact hs hk' (s1, _, _) (υ, _, _) ⟨⟨hnx, hnm, x4⟩, n3, rfl, Or.inl ⟨rfl, rfl⟩⟩
    · rw [if_neg hz, if_neg hz, bp_s, bp_s]
      rcases i6 with ⟨rfl, rfl⟩ | ⟨z, z1, z2, rfl, rfl⟩
      · have c1 : ¬ (9999 : Int32) < zI O.at' := by
          rw [show (9999 : Int32) = zI 9999 from rfl, zI_lt (by omega) (by omega) (by omega) (by omega)]
          omega
        have c2 : ¬ (60 : Int32) < zI O.at' := by
          rw [show (60 : Int32) = zI 60 from rfl, zI_lt (by omega) (by omega) (by omega) (by omega)]
          omega
        rw [if_neg c1, if_neg c2]
        exact hs hk' (s1, _, _) (υ, _, _) ⟨⟨hnx, hnm, x4⟩, n3, rfl, Or.inl ⟨rfl, rfl⟩⟩
      · by_cases hc : zI z < zI O.at'
        · rw [if_pos hc]
          exact hs hk' (s1, _, _) (υ, _, _) ⟨⟨hnx, hnm, x4⟩, n3, rfl, Or.inr ⟨_, hrg.2.2.2.1, hrg.2.2.2.2.1, rfl, rfl⟩⟩
        · rw [if_neg hc]
          exact hs hk' (s1, _, _) (υ, _, _) ⟨⟨hnx, hnm, x4⟩, n3, rfl, Or.inr ⟨z, z1, z2, rfl, rfl⟩⟩
theorem OP_moor (h : RL x mo sx sm) (v : Int32) : W2 (sX1_moor sx x v) (sX2_moor sm mo v) (Op x mo sx sm) := by
  unfold sX1_moor sX2_moor
  refine op_is h 1 (by decide) (h.isQ v) ?_
  intro w R S q hC hq e
  subst e
  have hw := hC.qc.wf
  have h6 := hw.2.2.1
  have h5 := hw.2.2.2.2.2.2.1
  obtain ⟨τ, e, m1, m2, m3⟩ := hC.now
  rw [M_kd hC.ms, e, bp_s]
  refine W2_lcc (R := fun a b => IQ x mo w sx (gd sm mo) a b) (W2_loop (fun n (b : St) k => sX1_moor_L16 x (nI q) n b (nI k)) (fun n (b : St) k => sX2_moor_L24 mo (nI q) n b (nI k)) 60 (fun _ a b => IQ x mo w sx (gd sm mo) a b ∧ TRL b mo R S 0 none) (by omega) (fun n m k b c hk hi hs => ?_) 0 (Nat.zero_le _) sx τ ⟨⟨Xq.rf .., m1, hC.fl⟩, m3⟩) (fun a b hP => fin_wellI hC hP rfl)
  rw [sX1_moor_L16, sX2_moor_L24]
  by_cases hkk : k = 60
  · subst hkk
    rw [if_pos (by decide), if_pos (by decide)]
    exact W2_ret (LC_r hi.1)
  · have hk' : k < 60 := by omega
    have hn : ¬ (59 : Int32) < nI k := nI_nlt (a := 59) (b := k) (by omega) (by omega)
    rw [if_neg hn, if_neg hn]
    refine W2_lcI (P := Op x mo sx sm) (R := fun a b => IQ x mo w sx (gd sm mo) a b ∧ TRL b mo R S 0 none) (W2_loop (fun n (b : St) j => sX1_moor_L24 x (nI q) (nI k) n b (nI j)) (fun n (b : St) j => sX2_moor_L32 mo (nI q) (nI k) n b (nI j)) (R 1) (fun _ a b => IQ x mo w sx (gd sm mo) a b ∧ TRL b mo R S 0 none) (by omega) (fun n m j b c hj hi hs => ?_) 0 (Nat.zero_le _) b c hi) (fun a b hP => LC_l hP) (fun a b hP => by rw [nI_1]; exact hs hk' a b hP)
    obtain ⟨⟨i1, i2, i3⟩, i5⟩ := hi
    have bq := hC.qc.xq i1
    have bm := hC.mc.mq i2
    rw [sX1_moor_L24, sX2_moor_L32, bq.xd.k5, X_places bq.xd bq.xt, bp_s, M_n1 bm]
    by_cases hkk : j = R 1
    · rw [if_pos (nI_le (by omega) (by omega)), if_pos (nI_le (by omega) (by omega))]
      exact W2_ret (LC_r ⟨⟨i1, i2, i3⟩, i5⟩)
    · have hj' : j < R 1 := by omega
      obtain ⟨υ, e', n1, n2, n3, n4, n5⟩ := M_rn0 bm i5 hw hC.qc.tb hq (p := j) (fr := k) (by omega) hk'
      obtain ⟨s1, e1, x1, x2, x3, x4, x5⟩ := X_br0 bq bq.xd.s1 bq.sc bq.tb i3 hq (p := j) (fr := k) (by omega) hk'
      rw [if_neg (nI_ge (by omega) (by omega)), if_neg (nI_ge (by omega) (by omega)), bq.xd.r1002, bq.xd.k5, e1, bd_s, M_kd bm.1, e', bp_s, M_g34 n2.1, n4, nI_1]
      unfold sX1_isWon
      have hnx := i1.tr' x1
      have hnm := i2.tr n1
      by_cases hz : zI (BO R S none 0 q j k none 0).en ≤ 0
      · rw [if_pos hz, if_pos hz, bp_s, if_pos rfl]
        exact hs hj' s1 υ ⟨⟨hnx, hnm, x4⟩, n3⟩
      · rw [if_neg hz, if_neg hz, bp_s, if_neg (by decide), x2.xd.k5, X_well x2.xd.1.1 x2.xd.1.2.1, bd_s]
        exact W2_ret (LC_l (fin_op hC hnx hnm x4 rfl))
/-- copying between arrays -/
theorem cpI_ap {α : Type} {c a b sp dp n : Nat} (ha : σ.ob a = c) (hb : σ.ob b = c) (h1 : sp + n ≤ σ.ln a) (h2 : dp + n ≤ σ.ln b) (hl : σ.lo ≤ b) (h3 : sp < 2147483648) (h4 : dp < 2147483648) (h5 : n < 2147483648) (k : St → Option α) : cpI σ c (some a) (nI sp) (some b) (nI dp) (nI n) k = k (σ.aI b (cpF (σ.ai a) (σ.ai b) sp dp n)) := by
  show (if cpOK σ c a b (nI sp) (nI dp) (nI n) then _ else none) = _
  have e : cpOK σ c a b (nI sp) (nI dp) (nI n) = true := by
    unfold cpOK
    rw [nI_clamp h3, nI_clamp h4, nI_clamp h5]
    simp [ha, hb, h1, h2, hl, nI_pos h3, nI_pos h4, nI_pos h5]
  rw [e, nI_clamp h3, nI_clamp h4, nI_clamp h5]
  rfl
theorem X_takes {s d t t' : Nat} (x : Nat) (hs : SH σ s t) (hd : SH σ d t') (hc : SC σ s S) : ∃ τ, sX14_takes σ d (some s) = some τ ∧ Xq x d σ τ ∧ SC τ d S ∧ ∀ F a, F ≠ 77 → F ≠ 78 → τ.fi F a = σ.fi F a := by
  generalize h1 : σ.aI (d + 1) (cpF (σ.ai (s + 1)) (σ.ai (d + 1)) 0 0 6) = σ1
  have x1 : Xq x d σ σ1 := by rw [← h1]; exact (Xq.rf x d σ).at'
  have s1 := x1.sh hs
  have d1 := x1.sh hd
  have f1 : ∀ F a, σ1.fi F a = σ.fi F a := fun F a => by rw [← h1]; rfl
  generalize h2 : σ1.sI 77 d (nI (S 6)) = σ2
  have x2 : Xq x d σ σ2 := by rw [← h2]; exact x1.st (Or.inl rfl)
  have s2 := x2.sh hs
  have d2 := x2.sh hd
  have e78 : σ2.fi 78 s = nI (S 7) := by rw [← h2, fi_sI, up2_ap, if_neg (by omega), f1]; exact hc.2.2
  refine ⟨σ2.sI 78 d (nI (S 7)), ?_, x2.st (Or.inr rfl), ⟨fun p hp => ?_, ?_, if_pos ⟨rfl, rfl⟩⟩, fun F a h7 h8 => ?_⟩
  · unfold sX14_takes
    rw [hs.r1036, hd.r1036, show (0 : Int32) = nI 0 from rfl, show (6 : Int32) = nI 6 from rfl, cpI_ap hs.2.2.2.2.1 hd.2.2.2.2.1 (by rw [hs.2.2.2.2.2]; decide) (by rw [hd.2.2.2.2.2]; decide) (by have := hd.2.1; omega) (by decide) (by decide) (by decide), h1, g77_21 s1.1, f1, hc.2.1, d1.p77, h2, g78_21 s2.1, e78, d2.p78]
  · rw [ai_sI, ← h2, ai_sI, ← h1, ai_aI, up1_eq]
    unfold cpF
    rw [if_pos (by omega), show 0 + (p - 0) = p by omega]
    exact hc.1 p hp
  · rw [fi_sI, up2_ap, if_neg (by omega), ← h2]
    exact if_pos ⟨rfl, rfl⟩
  · rw [fi_sI, up2_ap, if_neg (by omega), ← h2, fi_sI, up2_ap, if_neg (by omega)]
    exact f1 F a
theorem X_tries (h : QC σ x w R S) (hf : FL σ x pl oth false) : ∃ τ, sX1_tries σ x = some (τ, some (w 0 2)) ∧ Xq x (w 0 2) σ τ ∧ QC τ x w R S ∧ SC τ (w 0 2) S ∧ FL τ x pl oth false := by
  obtain ⟨τ, e, x1, x2, x3⟩ := X_takes x h.xd.s1 h.xd.s2 h.sc
  have q := h.xq x1
  refine ⟨τ, ?_, x1, q, x2, (x3 4 x (by decide) (by decide)).trans hf.1, (x3 5 x (by decide) (by decide)).trans hf.2.1, (x3 12 x (by decide) (by decide)).trans hf.2.2⟩
  unfold sX1_tries
  rw [h.xd.r1003, h.xd.r1002, h.xd.s2.i21, e, bp_s, q.xd.r1003]
theorem by8 : ∀ k, k < 128 → ((nI k).toInt8.toInt32).toInt8.toInt32 = nI k := by decide +kernel
theorem TB.up {p k : Nat} (h : TB T) (hp : p < 6) (hk : k < 6) : TB (upA T p (k + 1)) := by
  refine ⟨fun m hm => ?_, ?_⟩
  · rw [upA_ap]
    split
    · omega
    · exact h.1 m hm
  · rw [upA_ap, if_neg (by omega)]
    exact h.2
theorem SC.sent {s t p k : Nat} (hs : SH σ s t) (hc : SC σ s T) (hp : p < 6) (hk : k < 6) : SC (σ.aI (s + 1) (upA (σ.ai (s + 1)) p (nI k))) s (upA T p (k + 1)) := by
  refine ⟨fun m hm => ?_, ?_, ?_⟩
  · rw [ai_aI, up1_eq, upA_ap, upA_ap]
    by_cases h : m = p
    · rw [if_pos h, if_pos h, oI_s]
    · rw [if_neg h, if_neg h]
      exact hc.1 m hm
  · rw [upA_ap, if_neg (by omega)]
    exact hc.2.1
  · rw [upA_ap, if_neg (by omega)]
    exact hc.2.2
theorem X_stw {p k : Nat} (h : QC σ x w R S) (hf : FL σ x none 0 false) (hp : p < 6) (hk : k < 6) : ∃ τ, sX1_stoppedWith σ x (nI p) (nI k) = some (τ, nI (stopS R (upA S p (k + 1)) none 0)) ∧ Xq x (w 0 2) σ τ ∧ FL τ x none 0 false := by
  obtain ⟨τ, e, x1, q1, c1, f1⟩ := X_tries h hf
  have x2 : Xq x (w 0 2) σ (τ.aI (w 0 2 + 1) (upA (τ.ai (w 0 2 + 1)) p (nI k))) := x1.at'
  have q2 := h.xq x2
  have c2 := SC.sent q1.xd.s2 c1 hp hk
  obtain ⟨υ, e', x3, q3, c3, f3⟩ := X_stp q2 q2.xd.s2 c2 (h.tb.up hp hk) (show FL (τ.aI (w 0 2 + 1) (upA (τ.ai (w 0 2 + 1)) p (nI k))) x none 0 false from f1) np (by decide)
  refine ⟨υ, ?_, x2.tr' x3, f3⟩
  unfold sX1_stoppedWith
  rw [h.xd.k5, e, bd_s, q1.xd.s2.r1036, q1.xd.s2.t1 hp, by8 k (by omega), q2.xd.r1003, q2.xd.k5, e', bd_s]
theorem M_sent {j k : Nat} (ht : TRL σ mo R T oth pl) (hj : j < 8) : TRL (σ.aI (mo + 8) (upA (σ.ai (mo + 8)) j (nI k))) mo R (upA T j k) oth pl := by
  refine ⟨fun i hi => ?_, fun m hm => ?_, fun m hm => ?_⟩
  · rw [ai_aI, up1_eq, upA_ap, upA_ap]
    split
    · rfl
    · exact ht.1 i hi
  · rw [ai_aI, up1_ne (by omega)]; exact ht.2.1 m hm
  · rw [ai_aI, up1_ne (by omega)]; exact ht.2.2 m hm
theorem M_stw {p k : Nat} (h : MC σ mo R S) (hw : WF R) (hb : TB S) (hp : p < 6) (hk : k < 6) : ∃ τ, sX2_stoppedWith σ mo (nI p) (nI k) = some (τ, nI (stopS R (upA S p (k + 1)) none 0)) ∧ Mq mo σ τ := by
  obtain ⟨τ, e, m1, m2, m3⟩ := M_now h hw
  have n1 : Mq mo τ (τ.aI (mo + 8) (upA (τ.ai (mo + 8)) p (nI (k + 1)))) := (Mq.rf _ _).aI (by omega) (by omega)
  obtain ⟨υ, e', k1, k2, k3⟩ := M_stp (m2.mq n1) (M_sent m3 (by omega)) hw (hb.up hp hk)
  refine ⟨υ, ?_, m1.tr (n1.tr k1)⟩
  unfold sX2_stoppedWith
  rw [M_kd h.1, e, bp_s, M_r1016 m2.1, nI_1, M_t8 m2.1 (by omega), M_kd (m2.mq n1).1, e', bd_s]
theorem M_canHire {m : Nat} (h : MC σ mo R S) (hw : WF R) (hm : m < R 3) : sX2_canHire σ mo (nI m) = some (if R (29 + 4 * m) = 0 then 0 else 1) := by
  have h6 := hw.2.2.2.2.1
  have h9 := (hw.2.2.2.2.2.2.2.2.2.1 m hm).2.2.2
  unfold sX2_canHire
  rw [M_r1011 h.1, show (26 : Int32) = nI 26 from rfl, show (4 : Int32) = nI 4 from rfl, show (3 : Int32) = nI 3 from rfl, pk_mul, nI_add, nI_add, M_l3 h.1 (by omega), h.2.1 _ (by omega), show 26 + 4 * m + 3 = 29 + 4 * m by omega]
  by_cases h0 : R (29 + 4 * m) = 0
  · rw [h0, if_pos (by decide), if_pos rfl]
  · rw [if_neg (nI_nle (by omega) (by omega)), if_neg h0]
theorem oI_l {n : Nat} (h : n < 2147483648) : (oI n = -2) = (n = 0) := oI_m2 h
theorem OP_stoppedIf (h : RL x mo sx sm) (p v : Int32) : W2 (sX1_stoppedIf sx x p v) (sX2_stoppedIf sm mo p v) (Op x mo sx sm) := by
  unfold sX1_stoppedIf sX2_stoppedIf
  refine op_is h 1 (by decide) (h.isM p) ?_
  intro w R S m hC hm e
  subst e
  have hw := hC.qc.wf
  have h6 := hw.2.2.1
  have h3 := hw.2.2.2.2.1
  obtain ⟨c, f1, f2, f3⟩ := h.isP v
  dsimp only at f2
  rw [hC.qc.xd.k5, f1, bp_s, M_kd hC.ms, f2, bp_s]
  cases c
  · rw [if_pos (by decide), if_pos (by decide)]
    exact fin_ref h 1 (by decide)
  · rw [if_neg b1t, if_neg b1t]
    obtain ⟨w', R', S', k2, hC', hk2, rfl⟩ := f3 rfl
    have hR1 : R' 1 = R 1 := by
      have a := hC.mc.2.1 1 (by decide)
      have b := hC'.mc.2.1 1 (by decide)
      rw [a] at b
      have := hC.qc.wf.r1
      have := hC'.qc.wf.r1
      exact ((nI_eq' (by omega) (by omega)).mp b).symm
    have h9 := (hw.2.2.2.2.2.2.2.2.2.1 m hm).2.2.2
    rw [hC.qc.xd.r1001, hC.qc.xt.i10, hC.qc.xt.pg hw hm, bp_s, hC.qc.xt.p69 hw hm, M_kd hC.ms, M_canHire hC.mc hw hm, bp_s]
    by_cases h0 : R (29 + 4 * m) = 0
    · rw [iteP (oI_l (by omega)), if_pos h0, if_pos h0, if_pos rfl]
      exact fin_ref h 5 (by decide)
    · rw [iteP (oI_l (by omega)), if_neg h0, if_neg h0, if_neg (by decide)]
      obtain ⟨s1, e1, x1, x2⟩ := X_stw (p := m) (k := k2) hC.qc hC.fl (by omega) (by omega)
      obtain ⟨s2, e2, y1⟩ := M_stw (p := m) (k := k2) hC.mc hw hC.qc.tb (by omega) (by omega)
      rw [hC.qc.xd.k5, e1, bd_s, M_kd hC.ms, e2, bd_s]
      exact fin_well hC x1 y1 x2 rfl
theorem OP_bestHire (h : RL x mo sx sm) : W2 (sX1_bestHire sx x) (sX2_bestHire sm mo) (Op x mo sx sm) := by
  unfold sX1_bestHire sX2_bestHire
  refine op_town h ?_
  intro w R S hC
  have hw := hC.qc.wf
  have h6 := hw.2.2.1
  have h3 := hw.2.2.2.2.1
  obtain ⟨τ, e, m1, m2, m3⟩ := hC.now
  obtain ⟨υ, e2, n1, n2, n3⟩ := M_stp m2 m3 hw hC.qc.tb
  obtain ⟨s1, e1, x1, x2, x3, x4⟩ := X_stp hC.qc hC.qc.xd.s1 hC.qc.sc hC.qc.tb hC.fl np (by decide)
  have h8 : stopS R S none 0 < 256 := Nat.lt_of_lt_of_le (stopS_lt hw) (by decide)
  rw [hC.qc.xd.r1002, hC.qc.xd.k5, e1, bd_s, X_bits _ h8, bp_s, M_kd hC.ms, e, bp_s, M_kd m2.1, e2, bd_s, M_ones _ h8, bp_s]
  refine W2_b2 (P := fun a b => IQ x mo w sx (gd sm mo) a.1 b.1 ∧ a.2 = b.2) (W2_loop (fun n (b : St × Int32 × Int32) k => sX1_bestHire_L30 x n b.1 b.2.1 b.2.2 (nI k)) (fun n (b : St × Int32 × Int32) k => sX2_bestHire_L34 mo n b.1 b.2.1 b.2.2 (nI k)) (R 3) (fun _ a b => IQ x mo w sx (gd sm mo) a.1 b.1 ∧ a.2 = b.2) (by omega) (fun n m k b c hk hi hs => ?_) 0 (Nat.zero_le _) (s1, _, -2) (υ, _, -2) ⟨⟨x1, m1.tr n1, x4⟩, rfl⟩) (fun a c b d hP => fin_wellI hC hP.1 hP.2)
  obtain ⟨b, u, v⟩ := b
  obtain ⟨c, u', v'⟩ := c
  obtain ⟨hi, i4⟩ := hi
  dsimp only at hi i4 hs ⊢
  cases i4
  have bq := hC.qc.xq hi.1
  have bm := hC.mc.mq hi.2.1
  rw [sX1_bestHire_L30, sX2_bestHire_L34, bq.xd.k5, X_people bq.xd bq.xt, bp_s, M_n3 bm]
  by_cases hkk : k = R 3
  · rw [if_pos (nI_le (by omega) (by omega)), if_pos (nI_le (by omega) (by omega))]
    exact W2_ret ⟨hi, rfl⟩
  · have hk' : k < R 3 := by omega
    have h9 := (hw.2.2.2.2.2.2.2.2.2.1 k hk').2.2.2
    rw [if_neg (nI_ge (by omega) (by omega)), if_neg (nI_ge (by omega) (by omega))]
    refine W2_b3 (P := fun a b => IQ x mo w sx (gd sm mo) a.1 b.1 ∧ a.2 = b.2) (W2_loop (fun n (b : St × Int32 × Int32) j => sX1_bestHire_L41 x (nI k) n b.1 b.2.1 b.2.2 (nI j)) (fun n (b : St × Int32 × Int32) j => sX2_bestHire_L47 mo (nI k) n b.1 b.2.1 b.2.2 (nI j)) (R 1) (fun _ a b => IQ x mo w sx (gd sm mo) a.1 b.1 ∧ a.2 = b.2) (by omega) (fun n m j b c hj hi hs => ?_) 0 (Nat.zero_le _) (b, u, v) (c, u, v) ⟨hi, rfl⟩) (fun a c e b d f hP => by
      obtain ⟨p1, p2⟩ := hP
      dsimp only at p1 p2
      cases p2
      rw [nI_1]
      exact hs hk' (a, c, e) (b, c, e) ⟨p1, rfl⟩)
    obtain ⟨b, u, v⟩ := b
    obtain ⟨c, u', v'⟩ := c
    obtain ⟨hi, i4⟩ := hi
    dsimp only at hi i4 hs ⊢
    cases i4
    have bq := hC.qc.xq hi.1
    have bm := hC.mc.mq hi.2.1
    rw [sX1_bestHire_L41, sX2_bestHire_L47, bq.xd.k5, X_places bq.xd bq.xt, bp_s, M_n1 bm]
    by_cases hkk : j = R 1
    · rw [if_pos (nI_le (by omega) (by omega)), if_pos (nI_le (by omega) (by omega))]
      exact W2_ret ⟨hi, rfl⟩
    · have hj' : j < R 1 := by omega
      rw [if_neg (nI_ge (by omega) (by omega)), if_neg (nI_ge (by omega) (by omega)), bq.xd.r1001, bq.xt.i10, bq.xt.pg hw hk', bp_s, bq.xt.p69 hw hk', M_kd bm.1, M_canHire bm hw hk', bp_s]
      by_cases h0 : R (29 + 4 * k) = 0
      · rw [iteP (oI_l (by omega)), if_pos h0, if_pos h0, if_pos rfl]
        exact W2_ret ⟨hi, rfl⟩
      · rw [iteP (oI_l (by omega)), if_neg h0, if_neg h0, if_neg (by decide)]
        obtain ⟨s1, e1, x1, x2⟩ := X_stw (p := k) (k := j) bq hi.2.2 (by omega) (by omega)
        obtain ⟨s2, e2, y1⟩ := M_stw (p := k) (k := j) bm hw bq.tb (by omega) (by omega)
        have h8 : stopS R (upA S k (j + 1)) none 0 < 256 := Nat.lt_of_lt_of_le (stopS_lt hw) (by decide)
        rw [bq.xd.k5, e1, bd_s, X_bits _ h8, bp_s, M_kd bm.1, e2, bd_s, M_ones _ h8, bp_s, nI_1]
        have hI : IQ x mo w sx (gd sm mo) s1 s2 := ⟨hi.1.tr' x1, hi.2.1.tr y1, x2⟩
        split
        · exact hs hj' (s1, _, _) (s2, _, _) ⟨hI, rfl⟩
        · exact hs hj' (s1, _, _) (s2, _, _) ⟨hI, rfl⟩
end
