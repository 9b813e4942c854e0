/-! QUERIES: where and when; the nurse -/
set_option maxRecDepth 100000
theorem TRL.mf {σ τ : St} {mo : Nat} {R tr : Nat → Nat} {oth : Nat} {pl : Option Nat} {P : Nat → Bool} (h : TRL σ mo R tr oth pl) (m : Mf P σ τ) : TRL τ mo R tr oth pl := ⟨m.ar h.1, m.tt h.2⟩
def onesS (v : Nat) : Nat := itN (fun k n => n + b1 (v.testBit k)) 8 0 0
theorem X_bits' : ∀ v, v < 256 → sX1_bits_L4 FU 0 (nI v) = some (nI (onesS v)) := by decide +kernel
theorem M_ones' : ∀ v, v < 256 → sX2_ones_L4 (nI v) FU 0 0 = some (nI (onesS v)) := by decide +kernel
theorem onesS_le' : ∀ v, v < 256 → onesS v ≤ 8 := by decide +kernel
theorem X_bits (s : St) {v : Nat} (h : v < 256) : sX1_bits s (nI v) = some (nI (onesS v)) := by
  unfold sX1_bits
  rw [X_bits' v h, bp_s]
theorem M_ones (s : St) {v : Nat} (h : v < 256) : sX2_ones s (nI v) = some (nI (onesS v)) := by
  unfold sX2_ones
  rw [M_ones' v h, bp_s]
/-- quarrels that are stopped -/
def stopS (R T : Nat → Nat) (pl : Option Nat) (oth : Nat) : Nat := itN (fun q s => s ||| if zI (TO R T pl oth q none 0).en = 0 then 2 ^ q else 0) (R 5) 0 0
theorem stopS_lt {R T : Nat → Nat} {pl : Option Nat} {oth : Nat} (hw : WF R) : stopS R T pl oth < 8 := by
  have h5 := hw.2.2.2.2.2.2.1
  refine itN_inv (K := R 5) (fun k b => b < 8) (fun k b hk hb => ?_) (R 5) 0 _ (by omega) (by decide)
  refine Nat.or_lt_two_pow (n := 3) hb ?_
  split
  · exact pow_le_of (by omega)
  · decide
section
variable {x mo : Nat} {σ sx s0 sm : St} {w : Nat → Nat → Nat} {R S T : Nat → Nat} {pl : Option Nat} {oth : Nat}
theorem X_stp {s : Nat} (h : QC σ x w R S) (hs : SH σ s (w 0 0)) (hc : SC σ s T) (hb : TB T) (hf : FL σ x pl oth false) (hpm : ∀ q, pl = some q → q < 6) (ho6 : oth < 2147483648) : ∃ τ, sX1_stoppedOn σ x (some s) = some (τ, nI (stopS R T pl oth)) ∧ Xq x (w 0 2) σ τ ∧ QC τ x w R S ∧ SC τ s T ∧ FL τ x pl oth false := by
  have hw := h.wf
  have h5 := hw.2.2.2.2.2.2.1
  have hl := Wp_loop (fun n (b : St × Nat) k => sX1_stoppedOn_L4 x (some s) n b.1 (nI b.2) (nI k)) (R 5) (fun k b => Xq x (w 0 2) σ b.1 ∧ SC b.1 s T ∧ FL b.1 x pl oth false ∧ itN (fun q s => s ||| if zI (TO R T pl oth q none 0).en = 0 then 2 ^ q else 0) (R 5 - k) k b.2 = stopS R T pl oth) (Q := fun v => ∃ τ, v = (τ, nI (stopS R T pl oth)) ∧ Xq x (w 0 2) σ τ ∧ SC τ s T ∧ FL τ x pl oth false) (by omega) (fun n k b hk hi hn => by
    obtain ⟨b, v⟩ := b
    obtain ⟨i1, i2, i3, i4⟩ := hi
    dsimp only at i1 i2 i3 i4 hn ⊢
    have bq := h.xq i1
    rw [sX1_stoppedOn_L4, bq.xd.k5, X_quarrels bq.xd bq.xt, bp_s]
    by_cases hkk : k = R 5
    · rw [if_pos (nI_le (by omega) (by omega))]
      refine ⟨_, rfl, b, ?_, i1, i2, i3⟩
      rw [← i4, hkk, Nat.sub_self]
      rfl
    · have hk' : k < R 5 := by omega
      obtain ⟨τ, e, x1, x2, x3, x4, -⟩ := X_on (dr := 0) bq (i1.sh hs) i2 hb i3 hpm ho6 (fun q => by cases q) hk'
      have eb : (TO R T pl oth k (bB false) 0) = (TO R T pl oth k none 0) := rfl
      rw [eb] at e
      rw [show R 5 - k = (R 5 - (k + 1)) + 1 by omega] at i4
      have i4' : itN (fun q s => s ||| if zI (TO R T pl oth q none 0).en = 0 then 2 ^ q else 0) (R 5 - (k + 1)) (k + 1) (v ||| if zI (TO R T pl oth k none 0).en = 0 then 2 ^ k else 0) = stopS R T pl oth := i4
      rw [if_neg (nI_ge (by omega) (by omega)), bq.xd.k5, e, bd_s, nI_1]
      by_cases hz : zI (TO R T pl oth k none 0).en = 0
      · rw [if_pos hz] at i4' ⊢
        rw [bp_s, show (1 : Int32) = nI 1 from rfl, show (31 : Int32) = nI 31 from rfl, nI_shl1 (by omega), nI_or]
        exact hn hk' (τ, _) ⟨i1.tr' x1, x3, x4, i4'⟩
      · rw [if_neg hz] at i4' ⊢
        rw [bp_s, show (0 : Int32) = nI 0 from rfl, nI_or]
        exact hn hk' (τ, _) ⟨i1.tr' x1, x3, x4, i4'⟩) 0 (Nat.zero_le _) (σ, 0) ⟨Xq.rf .., hc, hf, rfl⟩
  obtain ⟨v, e, τ, rfl, x1, x2, x3⟩ := hl
  refine ⟨τ, ?_, x1, h.xq x1, x2, x3⟩
  have e' : sX1_stoppedOn_L4 x (some s) FU σ 0 0 = some (τ, nI (stopS R T pl oth)) := e
  unfold sX1_stoppedOn
  rw [e', b2_s]
theorem M_stp (h : MC σ mo R S) (ht : TRL σ mo R T oth pl) (hw : WF R) (hb : TB T) : ∃ τ, sX2_stopped σ mo = some (τ, nI (stopS R T pl oth)) ∧ Mq mo σ τ ∧ MC τ mo R S ∧ TRL τ mo R T oth pl := by
  have h5 := hw.2.2.2.2.2.2.1
  have hl := Wp_loop (fun n (b : St × Nat) k => sX2_stopped_L4 mo n b.1 (nI b.2) (nI k)) (R 5) (fun k b => Mq mo σ b.1 ∧ TRL b.1 mo R T oth pl ∧ itN (fun q s => s ||| if zI (TO R T pl oth q none 0).en = 0 then 2 ^ q else 0) (R 5 - k) k b.2 = stopS R T pl oth) (Q := fun v => ∃ τ, v = (τ, nI (stopS R T pl oth)) ∧ Mq mo σ τ ∧ TRL τ mo R T oth pl) (by omega) (fun n k b hk hi hn => by
    obtain ⟨b, v⟩ := b
    obtain ⟨i1, i2, i4⟩ := hi
    dsimp only at i1 i2 i4 hn ⊢
    have bm := h.mq i1
    rw [sX2_stopped_L4, M_r1011 bm.1, show (5 : Int32) = nI 5 from rfl, M_l3 bm.1 (by decide), bm.2.1 5 (by decide)]
    by_cases hkk : k = R 5
    · rw [if_pos (nI_le (by omega) (by omega))]
      refine ⟨_, rfl, b, ?_, i1, i2⟩
      rw [← i4, hkk, Nat.sub_self]
      rfl
    · have hk' : k < R 5 := by omega
      obtain ⟨τ, e, x1, x2, x3, x4, -⟩ := M_told bm i2 hw hb hk'
      rw [show R 5 - k = (R 5 - (k + 1)) + 1 by omega] at i4
      have i4' : itN (fun q s => s ||| if zI (TO R T pl oth q none 0).en = 0 then 2 ^ q else 0) (R 5 - (k + 1)) (k + 1) (v ||| if zI (TO R T pl oth k none 0).en = 0 then 2 ^ k else 0) = stopS R T pl oth := i4
      rw [if_neg (nI_ge (by omega) (by omega)), M_kd bm.1, e, bp_s, M_g34 x2.1, x4.1, nI_1]
      by_cases hz : zI (TO R T pl oth k none 0).en = 0
      · rw [if_pos hz] at i4' ⊢
        rw [bp_s, show (1 : Int32) = nI 1 from rfl, show (31 : Int32) = nI 31 from rfl, nI_shl1 (by omega), nI_or]
        exact hn hk' (τ, _) ⟨i1.tr x1, x3, i4'⟩
      · rw [if_neg hz] at i4' ⊢
        rw [bp_s, show (0 : Int32) = nI 0 from rfl, nI_or]
        exact hn hk' (τ, _) ⟨i1.tr x1, x3, i4'⟩) 0 (Nat.zero_le _) (σ, 0) ⟨Mq.rf .., ht, rfl⟩
  obtain ⟨v, e, τ, rfl, x1, x2⟩ := hl
  refine ⟨τ, ?_, x1, h.mq x1, x2⟩
  have e' : sX2_stopped_L4 mo FU σ 0 0 = some (τ, nI (stopS R T pl oth)) := e
  unfold sX2_stopped
  rw [e', b2_s]
theorem M_plain {k : Nat} (ht : TRL σ mo R T 0 none) (h6 : R 3 ≤ 6) (hk : k < R 3) : TRL (σ.aI (mo + 10) (upA (σ.ai (mo + 10)) k 2)) mo R T 0 (some k) := by
  refine ⟨by rw [AR_aI (by decide)]; exact ht.1, fun m hm => ?_, fun m hm => ?_⟩
  · rw [ai_aI, up1_ne (by omega)]
    exact ht.2.1 m hm
  · rw [ai_aI, up1_eq, upA_ap]
    unfold eyP
    by_cases h : m = k
    · rw [if_pos h, if_pos (by rw [h])]; rfl
    · rw [if_neg h, if_neg (by simpa using fun q : k = m => h q.symm)]
      exact ht.2.2 m hm
theorem OP_nurse (h : RL x mo sx sm) : W2 (sX1_nurse sx x) (sX2_nurse sm mo) (Op x mo sx sm) := by
  unfold sX1_nurse sX2_nurse
  refine op_town h ?_
  intro w R S hC
  have hw := hC.qc.wf
  have h6 := hw.2.2.2.2.1
  obtain ⟨τ, e, m1, m2, m3⟩ := hC.now
  obtain ⟨υ, e2, n1, n2, n3⟩ := M_stp m2 m3 hw hC.qc.tb
  obtain ⟨s1, e1, x1, x2, x3, x4⟩ := X_stp hC.qc hC.qc.xd.s1 hC.qc.sc hC.qc.tb hC.fl np (by decide)
  have h8 : stopS R S none 0 < 256 := Nat.lt_of_lt_of_le (stopS_lt hw) (by decide)
  rw [hC.qc.xd.r1002, hC.qc.xd.k5, e1, bd_s, X_bits _ h8, bp_s, M_kd hC.ms, e, bp_s, M_kd m2.1, e2, bd_s, M_ones _ h8, bp_s]
  refine W2_b2 (P := fun a b => Xq x (w 0 2) sx a.1 ∧ Mq mo (gd sm mo) b.1 ∧ (∃ pl, FL a.1 x pl 0 false) ∧ a.2 = b.2) (W2_loop (fun n (b : St × Int32 × Int32) k => sX1_nurse_L30 x n b.1 b.2.1 b.2.2 (nI k)) (fun n (b : St × Int32 × Int32) k => sX2_nurse_L34 mo n b.1 b.2.1 b.2.2 (nI k)) (R 3) (fun _ a b => Xq x (w 0 2) sx a.1 ∧ Mq mo (gd sm mo) b.1 ∧ (∃ pl, FL a.1 x pl 0 false) ∧ a.2 = b.2) (by omega) (fun n m k b c hk hi hs => ?_) 0 (Nat.zero_le _) (s1, _, -2) (υ, _, -2) ⟨x1, m1.tr n1, ⟨_, x4⟩, rfl⟩) (fun a c b d hP => ?_)
  · obtain ⟨b, u, v⟩ := b
    obtain ⟨c, u', v'⟩ := c
    obtain ⟨i1, i2, ⟨pl, i3⟩, i4⟩ := hi
    dsimp only at i1 i2 i3 i4 hs ⊢
    cases i4
    have hq := hC.qc.xq i1
    have hmc := hC.mc.mq i2
    rw [sX1_nurse_L30, sX2_nurse_L34, hq.xd.k5, X_people hq.xd hq.xt, bp_s, M_r1011 hmc.1, show (3 : Int32) = nI 3 from rfl, M_l3 hmc.1 (by decide), hmc.2.1 3 (by decide)]
    by_cases hkk : k = R 3
    · rw [if_pos (nI_le (by omega) (by omega)), if_pos (nI_le (by omega) (by omega))]
      exact W2_ret ⟨i1, i2, ⟨pl, i3⟩, rfl⟩
    · have hk' : k < R 3 := by omega
      have y1 : Xq x (w 0 2) sx (b.sI 4 x (nI k)) := i1.sx (by decide) (by decide)
      have yq := hC.qc.xq y1
      have yf : FL (b.sI 4 x (nI k)) x (some k) 0 false := ⟨if_pos ⟨rfl, rfl⟩, i3.2.1, i3.2.2⟩
      obtain ⟨s2, f1, y2, y3, y4, y5⟩ := X_stp yq yq.xd.s1 yq.sc yq.tb yf (fun q e => by cases e; omega) (by decide)
      obtain ⟨τ', e', m1', m2', m3'⟩ := M_now hmc hw
      have q1 : Mq mo τ' (τ'.aI (mo + 10) (upA (τ'.ai (mo + 10)) k 2)) := (Mq.rf _ _).aI (by omega) (by omega)
      obtain ⟨υ', g2, n1', n2', n3'⟩ := M_stp (m2'.mq q1) (M_plain m3' h6 hk') hw hC.qc.tb
      have h8' : stopS R S (some k) 0 < 256 := Nat.lt_of_lt_of_le (stopS_lt hw) (by decide)
      rw [if_neg (nI_ge (by omega) (by omega)), if_neg (nI_ge (by omega) (by omega)), p4_5 hq.xd.1.1 hq.xd.1.2.1, yq.xd.r1002, yq.xd.k5, f1, bd_s, X_bits _ h8', bp_s, M_kd hmc.1, e', bp_s, M_r1018 m2'.1, M_t10 m2'.1 (by omega), M_kd (m2'.mq q1).1, g2, bd_s, M_ones _ h8', bp_s, nI_1]
      have hnm := i2.tr (m1'.tr (q1.tr n1'))
      have hnx := y1.tr' y2
      split
      · exact hs hk' (s2, _, _) (υ', _, _) ⟨hnx, hnm, ⟨_, y5⟩, rfl⟩
      · exact hs hk' (s2, _, _) (υ', _, _) ⟨hnx, hnm, ⟨_, y5⟩, rfl⟩
  · obtain ⟨p1, p2, ⟨pl, p3⟩, p4⟩ := hP
    dsimp only at p1 p2 p3 p4 ⊢
    have hq := hC.qc.xq p1
    rw [p4_5 hq.xd.1.1 hq.xd.1.2.1]
    have hfl : FL (a.sI 4 x (-1)) x none 0 false := ⟨if_pos ⟨rfl, rfl⟩, p3.2.1, p3.2.2⟩
    exact fin_well hC (p1.sx (F := 4) (by decide) (by decide)) p2 hfl p4
/-- brawls at a place, from a minute on, against the model's run -/
theorem X_br0 {s q p fr : Nat} (h : QC σ x w R S) (hs : SH σ s (w 0 0)) (hc : SC σ s T) (hb : TB T) (hf : FL σ x none 0 false) (hq : q < R 5) (hp : p < 6) (h60 : fr < 60) : ∃ τ, sX1_brawls σ x (some s) (nI q) (nI p) (nI fr) = some (τ, zI (BO R T none 0 q p fr none 0).en) ∧ Xq x (w 0 2) σ τ ∧ QC τ x w R S ∧ SC τ s T ∧ FL τ x none 0 false ∧ τ.fi 7 x = zI (BO R T none 0 q p fr none 0).at' := by
  obtain ⟨τ, e, x1, x2, x3, x4, x5⟩ := X_br (dr := 0) h hs hc hb hf np (by decide) (fun q => by cases q) hq hp h60
  exact ⟨τ, e, x1, x2, x3, x4, x5.1⟩
theorem M_rn0 {q p fr : Nat} (h : MC σ mo R S) (ht : TRL σ mo R T oth pl) (hw : WF R) (hb : TB T) (hq : q < R 5) (hp : p < 6) (h60 : fr < 60) : ∃ τ, sX2_run σ mo (nI q) (nI p) (nI fr) 0 = some τ ∧ Mq mo σ τ ∧ MC τ mo R S ∧ TRL τ mo R T oth pl ∧ τ.fi 34 mo = zI (BO R T pl oth q p fr none 0).en ∧ τ.fi 35 mo = zI (BO R T pl oth q p fr none 0).at' := by
  obtain ⟨τ, e, x1, x2, x3, x4, -⟩ := M_rn (B := none) (dr := 0) h ht hw hb trivial hq hp h60
  exact ⟨τ, e, x1, x2, x3, x4.1, x4.2.1⟩
/-- how many there are, at the model -/
theorem M_n {α : Type} (h : MC σ mo R S) {c : Nat} (hc : c < 241) (k : Int32 → Option α) : (gR σ 1011 (some mo) fun v => lI σ 1 v (nI c) k) = k (nI (R c)) := by
  rw [M_r1011 h.1, M_l3 h.1 hc, h.2.1 _ hc]
theorem M_n1 {α : Type} (h : MC σ mo R S) (k : Int32 → Option α) : (gR σ 1011 (some mo) fun v => lI σ 1 v 1 k) = k (nI (R 1)) := M_n h (c := 1) (by decide) k
theorem M_n2 {α : Type} (h : MC σ mo R S) (k : Int32 → Option α) : (gR σ 1011 (some mo) fun v => lI σ 1 v 2 k) = k (nI (R 2)) := M_n h (c := 2) (by decide) k
theorem M_n3 {α : Type} (h : MC σ mo R S) (k : Int32 → Option α) : (gR σ 1011 (some mo) fun v => lI σ 1 v 3 k) = k (nI (R 3)) := M_n h (c := 3) (by decide) k
theorem M_n5 {α : Type} (h : MC σ mo R S) (k : Int32 → Option α) : (gR σ 1011 (some mo) fun v => lI σ 1 v 5 k) = k (nI (R 5)) := M_n h (c := 5) (by decide) k
theorem M_n7 {α : Type} (h : MC σ mo R S) (k : Int32 → Option α) : (gR σ 1011 (some mo) fun v => lI σ 1 v 7 k) = k (nI (R 7)) := M_n h (c := 7) (by decide) k
/-- a quarrel's numbers at the model -/
theorem M_q0 {α : Type} (h : MC σ mo R S) {q : Nat} (hq : q < 3) (k : Int32 → Option α) : (gR σ 1011 (some mo) fun v => lI σ 1 v (80 + 5 * nI q) k) = k (nI (R (80 + 5 * q))) := by
  rw [M_r1011 h.1, show (80 : Int32) = nI 80 from rfl, show (5 : Int32) = nI 5 from rfl, pk_mul, nI_add, M_l3 h.1 (by omega), h.2.1 _ (by omega)]
theorem M_qj {α : Type} (h : MC σ mo R S) {q j : Nat} (hq : q < 3) (hj : j < 5) (k : Int32 → Option α) : (gR σ 1011 (some mo) fun v => lI σ 1 v (80 + 5 * nI q + nI j) k) = k (nI (R (80 + j + 5 * q))) := by
  rw [M_r1011 h.1, show (80 : Int32) = nI 80 from rfl, show (5 : Int32) = nI 5 from rfl, pk_mul, nI_add, nI_add, M_l3 h.1 (by omega), h.2.1 _ (by omega), show 80 + 5 * q + j = 80 + j + 5 * q by omega]
theorem M_q1 {α : Type} (h : MC σ mo R S) {q : Nat} (hq : q < 3) (k : Int32 → Option α) : (gR σ 1011 (some mo) fun v => lI σ 1 v (80 + 5 * nI q + 1) k) = k (nI (R (81 + 5 * q))) := M_qj h hq (j := 1) (by decide) k
theorem M_q2 {α : Type} (h : MC σ mo R S) {q : Nat} (hq : q < 3) (k : Int32 → Option α) : (gR σ 1011 (some mo) fun v => lI σ 1 v (80 + 5 * nI q + 2) k) = k (nI (R (82 + 5 * q))) := M_qj h hq (j := 2) (by decide) k
theorem M_q3 {α : Type} (h : MC σ mo R S) {q : Nat} (hq : q < 3) (k : Int32 → Option α) : (gR σ 1011 (some mo) fun v => lI σ 1 v (80 + 5 * nI q + 3) k) = k (nI (R (83 + 5 * q))) := M_qj h hq (j := 3) (by decide) k
theorem OP_endsIf (h : RL x mo sx sm) (v p u : Int32) : W2 (sX1_endsIf sx x v p u) (sX2_endsIf sm mo v p u) (Op x mo sx sm) := by
  unfold sX1_endsIf sX2_endsIf
  obtain ⟨b, g1, g2, g3⟩ := h.isQ v
  obtain ⟨c, f1, f2, f3⟩ := h.isP p
  dsimp only at g2 f2
  have hm := gd_ms h.1.2.1
  have e60 : (decide (0 ≤ u) && decide (u ≤ 59)) = isB u 60 := in_le (v := u) (n := 59) (by decide)
  rw [kd_ob h.1.1.1, g1, bp_s, M_kd h.1.2.1, M_good h.1.2.1, bp_s, M_kd hm, g2, bp_s]
  have e1 : (if nI (b1 b) = 0 then (some 0) else kd sx x 5 <| bp (sX1_isPlace sx x p) fun v22 => if v22 = 0 then (some 0) else (some 1)) = some (nI (b1 (b && c))) := by
    rw [kd_ob h.1.1.1, f1, bp_s]
    cases b <;> cases c <;> rfl
  have e2 : (if nI (b1 b) = 0 then (some 0) else kd (gd sm mo) mo 7 <| bp (sX2_isPlace (gd sm mo) mo p) fun v22 => if v22 = 0 then (some 0) else (some 1)) = some (nI (b1 (b && c))) := by
    rw [M_kd hm, f2, bp_s]
    cases b <;> cases c <;> rfl
  rw [e1, e2, bp_s, bp_s, kd_ob h.1.1.1, X_why (m := isB u 60) e60, bp_s, M_kd hm, M_isMinute, bp_s, M_kd hm, M_why, bp_s]
  cases b
  · exact fin_ref h (nI 1) (by decide)
  · cases c
    · exact fin_ref h (nI 1) (by decide)
    · cases hmm : isB u 60
      · exact fin_ref h (nI 2) (by decide)
      · obtain ⟨w, R, S, k, hC, hk', rfl⟩ := g3 rfl
        obtain ⟨w', R', S', k2, hC', hk2, rfl⟩ := f3 rfl
        have hR1 : R' 1 = R 1 := by
          have a := hC.mc.2.1 1 (by decide)
          have b := hC'.mc.2.1 1 (by decide)
          rw [a] at b
          have := hC.qc.wf.r1
          have := hC'.qc.wf.r1
          exact ((nI_eq' (by omega) (by omega)).mp b).symm
        obtain ⟨t, ht, rfl⟩ := isB_t (by decide) hmm
        have h6 := hC.qc.wf.2.2.1
        obtain ⟨τ, e, m1, m2, m3⟩ := hC.now
        obtain ⟨υ, e', n1, n2, n3, n4, n5⟩ := M_rn0 m2 m3 hC.qc.wf hC.qc.tb hk' (p := k2) (fr := t) (by omega) ht
        obtain ⟨s1, e1, x1, x2, x3, x4, x5⟩ := X_br0 hC.qc hC.qc.xd.s1 hC.qc.sc hC.qc.tb hC.fl hk' (p := k2) (fr := t) (by omega) ht
        show W2 (if nI 0 ≤ 0 then _ else _) (if nI 0 = 0 then _ else _) _
        rw [if_pos (show nI 0 ≤ 0 by decide), if_pos (show nI 0 = 0 by decide), hC.qc.xd.r1002, kd_ob h.1.1.1, e1, bd_s, M_kd hm, e, bp_s, M_kd m2.1, e', bp_s, M_g34 n2.1, n4]
        exact fin_well hC x1 (m1.tr n1) x4 rfl
theorem OP_cellars (h : RL x mo sx sm) (v : Int32) : W2 (sX1_cellars sx x v) (sX2_cellars sm mo v) (Op x mo sx sm) := by
  unfold sX1_cellars sX2_cellars
  refine op_is h 1 (by decide) (h.isQ v) ?_
  intro w R S q hC hq e
  subst e
  have hw := hC.qc.wf
  have h6 := hw.2.2.1
  have h5 := hw.2.2.2.2.2.2.1
  obtain ⟨u1, u2, u3, u4, u5, u6, u7⟩ := hw.2.2.2.2.2.2.2.2.2.2.2.1 q hq
  obtain ⟨τ, e, m1, m2, m3⟩ := hC.now
  rw [M_kd hC.ms, e, bp_s]
  refine W2_b2 (P := fun a b => Xq x (w 0 2) sx a.1 ∧ Mq mo (gd sm mo) b.1 ∧ FL a.1 x none 0 false ∧ a.2 = b.2) (W2_loop (fun n (b : St × Int32) k => sX1_cellars_L18 x (nI q) n b.1 b.2 (nI k)) (fun n (b : St × Int32) k => sX2_cellars_L26 mo (nI q) n b.1 b.2 (nI k)) (R 1) (fun _ a b => Xq x (w 0 2) sx a.1 ∧ Mq mo (gd sm mo) b.1 ∧ FL a.1 x none 0 false ∧ TRL b.1 mo R S 0 none ∧ a.2 = b.2) (by omega) (fun n m k b c hk hi hs => ?_) 0 (Nat.zero_le _) (sx, 0) (τ, 0) ⟨Xq.rf .., m1, hC.fl, m3, rfl⟩) (fun a c b d hP => fin_well hC hP.1 hP.2.1 hP.2.2.1 hP.2.2.2)
  obtain ⟨b, u⟩ := b
  obtain ⟨c, u'⟩ := c
  obtain ⟨i1, i2, i3, i5, i4⟩ := hi
  dsimp only at i1 i2 i3 i4 i5 hs ⊢
  subst i4
  have bq := hC.qc.xq i1
  have bm := hC.mc.mq i2
  rw [sX1_cellars_L18, sX2_cellars_L26, bq.xd.k5, X_places bq.xd bq.xt, bp_s, M_n1 bm]
  by_cases hkk : k = R 1
  · rw [if_pos (nI_le (by omega) (by omega)), if_pos (nI_le (by omega) (by omega))]
    exact W2_ret ⟨i1, i2, i3, rfl⟩
  · have hk' : k < R 1 := by omega
    obtain ⟨υ, e', n1, n2, n3, n4, n5⟩ := M_rn0 bm i5 hw hC.qc.tb hq (p := k) (fr := R (83 + 5 * q)) (by omega) (by omega)
    obtain ⟨s1, e1, x1, x2, x3, x4, x5⟩ := X_br0 bq bq.xd.s1 bq.sc bq.tb i3 hq (p := k) (fr := R (83 + 5 * q)) (by omega) (by omega)
    rw [if_neg (nI_ge (by omega) (by omega)), if_neg (nI_ge (by omega) (by omega)), bq.xd.r1002, bq.xd.r1001, bq.xt.i10, bq.xt.qg hw hq, bp_s, bq.xt.q74 hq, bq.xd.k5, e1, bd_s, M_q3 bm (by omega), M_kd bm.1, e', bp_s, M_g34 n2.1, n4, nI_1]
    unfold sX1_isWon
    have hnx := i1.tr' x1
    have hnm := i2.tr n1
    split
    · exact hs hk' (s1, _) (υ, _) ⟨hnx, hnm, x4, n3, rfl⟩
    · exact hs hk' (s1, _) (υ, _) ⟨hnx, hnm, x4, n3, rfl⟩
end
