/-! QUERIES: bricks; whom to hire -/
set_option maxRecDepth 100000
/-- a set found, or none yet -/
def bI (o : Option Nat) : Int32 := match o with
  | none => zI (-2)
  | some m => nI m
def oLt (o : Option Nat) (n : Nat) : Prop := ∀ m, o = some m → m < n
theorem oLt_n {n : Nat} : oLt none n := fun m q => by cases q
theorem oLt_s {m n : Nat} (h : m < n) : oLt (some m) n := fun k q => by cases q; exact h
theorem FL.sI {σ : St} {x F a oth : Nat} {v : Int32} {pl : Option Nat} {B : Bool} (h : FL σ x pl oth B) (h1 : F ≠ 4) (h2 : F ≠ 5) (h3 : F ≠ 12) : FL (σ.sI F a v) x pl oth B :=
  ⟨(if_neg (fun q => h1 q.1.symm)).trans h.1, (if_neg (fun q => h2 q.1.symm)).trans h.2.1, (if_neg (fun q => h3 q.1.symm)).trans h.2.2⟩
theorem bI_e {o : Option Nat} (h : oLt o 256) : (bI o = -2) = (o = none) := by
  match o, h with
  | none, _ => exact eq_true rfl |>.trans (eq_true rfl).symm
  | some m, h =>
    have := h m rfl
    have e : (nI m = zI (-2)) = False := nI_ne_z (by omega) (by omega) (by omega)
    show (nI m = zI (-2)) = _
    rw [e]; simp
theorem bI_l {o : Option Nat} (h : oLt o 256) : (bI o < 0) = (o = none) := by
  match o, h with
  | none, _ => exact (eq_true (by decide)).trans (eq_true rfl).symm
  | some m, h =>
    have := h m rfl
    have e : ¬ (nI m < 0) := nI_pos (by omega)
    show (nI m < 0) = _
    simp [e]
theorem bI_g {o : Option Nat} (h : oLt o 256) : (0 ≤ bI o) = (o ≠ none) := by
  match o, h with
  | none, _ => exact (eq_false (by decide)).trans (by simp)
  | some m, h =>
    have := h m rfl
    have e : 0 ≤ nI m := nI_pos' (by omega)
    show (0 ≤ nI m) = _
    simp [e]
theorem itN_add {β : Type} (f : Nat → β → β) : ∀ a b k s, itN f (a + b) k s = itN f b (k + a) (itN f a k s) := by
  intro a
  induction a with
  | zero => intro b k s; rw [Nat.zero_add]; rfl
  | succ a ih =>
    intro b k s
    rw [show a + 1 + b = (a + b) + 1 by omega]
    show itN f (a + b) (k + 1) (f k s) = _
    rw [ih, show k + 1 + a = k + (a + 1) by omega]
    rfl
theorem itN_id {β : Type} (f : Nat → β → β) : ∀ d k s, (∀ j s, k ≤ j → j < k + d → f j s = s) → itN f d k s = s := by
  intro d
  induction d with
  | zero => intro k s _; rfl
  | succ d ih =>
    intro k s h
    show itN f d (k + 1) (f k s) = s
    rw [h k s (by omega) (by omega)]
    exact ih (k + 1) s (fun j s h1 h2 => h j s (by omega) (by omega))
theorem itN_sel (c : Nat → Prop) [DecidablePred c] (n i : Nat) : (itN (fun k s => s ||| if c k then 2 ^ k else 0) n 0 0).testBit i = decide (i < n ∧ c i) := by
  rw [itN_bit, Nat.zero_testBit, Bool.false_or, Bool.eq_iff_iff, List.any_eq_true, decide_eq_true_eq]
  constructor
  · rintro ⟨j, hj, h⟩
    rw [List.mem_range'_1] at hj
    by_cases hc : c j
    · rw [if_pos hc, Nat.testBit_two_pow, decide_eq_true_eq] at h
      exact ⟨by omega, h ▸ hc⟩
    · rw [if_neg hc, Nat.zero_testBit] at h
      cases h
  · rintro ⟨h1, h2⟩
    exact ⟨i, by rw [List.mem_range'_1]; omega, by rw [if_pos h2, Nat.testBit_two_pow]; simp⟩
theorem sub_of {a b : Nat} (ha : a < 2 ^ 32) (h : a &&& (b ^^^ 4294967295) = 0) (i : Nat) (hi : a.testBit i = true) : b.testBit i = true := by
  have h1 : (a &&& (b ^^^ 4294967295)).testBit i = false := by rw [h, Nat.zero_testBit]
  rw [Nat.testBit_and, Nat.testBit_xor, bit_M, hi] at h1
  by_cases h32 : i < 32
  · simpa [h32] using h1
  · rw [bit_hi ha h32] at hi; cases hi
theorem sub_le {a b : Nat} (ha : a < 2 ^ 32) (h : a &&& (b ^^^ 4294967295) = 0) : a ≤ b := by
  have e : a &&& b = a := by
    apply Nat.eq_of_testBit_eq
    intro i
    rw [Nat.testBit_and]
    cases hi : a.testBit i
    · rfl
    · rw [sub_of ha h i hi]; rfl
  rw [← e]
  exact Nat.and_le_right
section
variable {x mo : Nat} {σ sx s0 sm : St} {w : Nat → Nat → Nat} {R S T : Nat → Nat} {pl : Option Nat} {oth : Nat}
theorem TB.br {v : Nat} (h : TB T) (hv : v < 256) : TB (upA T 6 v) := by
  refine ⟨fun m hm => ?_, ?_⟩
  · rw [upA_ap, if_neg (by omega)]; exact h.1 m hm
  · rw [upA_ap, if_pos rfl]; exact hv
theorem SC.brk {s v : Nat} (hc : SC σ s T) : SC (σ.sI 77 s (nI v)) s (upA T 6 v) := by
  refine ⟨fun m hm => ?_, ?_, ?_⟩
  · rw [upA_ap, if_neg (by omega)]
    exact hc.1 m hm
  · rw [upA_ap, if_pos rfl]
    exact if_pos ⟨rfl, rfl⟩
  · rw [upA_ap, if_neg (by omega), fi_sI, up2_ap, if_neg (by omega)]
    exact hc.2.2
theorem X_brk {q k : Nat} {v9 : Int32} (h : QC σ x w R S) (hf : FL σ x none 0 false) (hq : q < R 5) (hk : k < 256) : ∃ τ, (kd σ x 5 <| bd (sX1_tries σ x) fun s21 v22 => gI s21 77 v22 fun v24 => pI s21 77 v22 (v24 ||| nI k) fun s25 => gR s25 1003 (some x) fun v26 => kd s25 x 5 <| bd (sX1_brawlsOn s25 x v26 (nI q)) fun s28 v29 => bp (sX1_isWon s28 v29) fun v31 => if v31 = 0 then some (s28, v9) else some (s28, nI k)) = some (τ, if zI (TO R (upA S 6 (S 6 ||| k)) none 0 q none 0).en ≤ 0 then v9 else nI k) ∧ Xq x (w 0 2) σ τ ∧ FL τ x none 0 false := by
  obtain ⟨τ, e, x1, q1, c1, f1⟩ := X_tries h hf
  have x2 : Xq x (w 0 2) σ (τ.sI 77 (w 0 2) (nI (S 6 ||| k))) := x1.st (Or.inl rfl)
  have q2 := h.xq x2
  have f2 : FL (τ.sI 77 (w 0 2) (nI (S 6 ||| k))) x none 0 false := f1.sI (by decide) (by decide) (by decide)
  obtain ⟨υ, e', x3, q3, c3, f3, -⟩ := X_on (dr := 0) q2 q2.xd.s2 (SC.brk c1) (h.tb.br (Nat.or_lt_two_pow (n := 8) h.tb.2 hk)) f2 np (by decide) (fun q => by cases q) hq
  refine ⟨υ, ?_, x2.tr' x3, f3⟩
  have eb : bB false = none := rfl
  rw [eb] at e'
  rw [h.xd.k5, e, bd_s, q1.xd.s2.g77 c1, nI_or, q1.xd.s2.p77, q2.xd.r1003, q2.xd.k5, e', bd_s]
  unfold sX1_isWon
  split
  · rw [bp_s, if_pos rfl]
  · rw [bp_s, if_neg (by decide)]
theorem M_brk {q k : Nat} {v15 : Int32} (h : MC σ mo R S) (ht : TRL σ mo R T 0 none) (hT : ∀ j, j ≠ 6 → T j = S j) (hw : WF R) (hb : TB S) (hq : q < R 5) (hk : k < 256) : ∃ τ, (gR σ 1016 (some mo) fun v25 => gR σ 1013 (some mo) fun v26 => lI σ 1 v26 6 fun v27 => tI σ v25 6 (v27 ||| nI k) fun s28 => kd s28 mo 7 <| bp (sX2_runTold s28 mo (nI q)) fun s30 => gI s30 34 (some mo) fun v32 => if v32 ≤ 0 then some (s30, v15) else some (s30, nI k)) = some (τ, if zI (TO R (upA S 6 (S 6 ||| k)) none 0 q none 0).en ≤ 0 then v15 else nI k) ∧ Mq mo σ τ ∧ TRL τ mo R (upA S 6 (S 6 ||| k)) 0 none := by
  have n1 : Mq mo σ (σ.aI (mo + 8) (upA (σ.ai (mo + 8)) 6 (nI (S 6 ||| k)))) := (Mq.rf _ _).aI (by omega) (by omega)
  have hU : upA T 6 (S 6 ||| k) = upA S 6 (S 6 ||| k) := by
    funext j
    rw [upA_ap, upA_ap]
    split
    · rfl
    · next hj => exact hT j hj
  have ht2 : TRL (σ.aI (mo + 8) (upA (σ.ai (mo + 8)) 6 (nI (S 6 ||| k)))) mo R (upA S 6 (S 6 ||| k)) 0 none := by
    have := M_sent (k := S 6 ||| k) ht (j := 6) (by decide)
    rw [hU] at this
    exact this
  obtain ⟨υ, e', k1, k2, k3, k4, -⟩ := M_told (h.mq n1) ht2 hw (hb.br (Nat.or_lt_two_pow (n := 8) hb.2 hk)) hq
  refine ⟨υ, ?_, n1.tr k1, k3⟩
  rw [M_r1016 h.1, M_r1013 h.1, show (6 : Int32) = nI 6 from rfl, M_l5 h.1 (by decide), h.2.2.1 6 (by decide), nI_or, M_t8 h.1 (by decide), M_kd (h.mq n1).1, e', bp_s, M_g34 k2.1, k4.1]
  split <;> rfl
theorem OP_bricks (h : RL x mo sx sm) (v : Int32) : W2 (sX1_bricks sx x v) (sX2_bricks sm mo v) (Op x mo sx sm) := by
  unfold sX1_bricks sX2_bricks
  refine op_is h 1 (by decide) (h.isQ v) ?_
  intro w R S q hC hq e
  subst e
  have hw := hC.qc.wf
  have h2 := hw.2.2.2.1
  have h256 : 2 ^ R 2 ≤ 256 := Nat.le_trans (Nat.pow_le_pow_right (by decide) h2) (by decide)
  obtain ⟨τ, e, m1, m2, m3⟩ := hC.now
  rw [M_kd hC.ms, e, bp_s]
  refine W2_b2 (P := fun a b => IQ x mo w sx (gd sm mo) a.1 b.1 ∧ a.2 = b.2) (W2_loop (fun n (b : St × Int32) k => sX1_bricks_L19 x (nI q) n b.1 b.2 (nI k)) (fun n (b : St × Int32) k => sX2_bricks_L27 mo (nI q) n b.1 b.2 (nI k)) (2 ^ R 2) (fun _ a b => IQ x mo w sx (gd sm mo) a.1 b.1 ∧ (∃ T, TRL b.1 mo R T 0 none ∧ ∀ j, j ≠ 6 → T j = S j) ∧ ∃ o, oLt o 256 ∧ a.2 = bI o ∧ b.2 = bI o) (by omega) (fun n m k b c hk hi hs => ?_) 0 (Nat.zero_le _) (sx, bI none) (τ, bI none) ⟨⟨Xq.rf .., m1, hC.fl⟩, ⟨S, m3, fun _ _ => rfl⟩, none, oLt_n, rfl, rfl⟩) (fun a c b d hP => fin_wellI hC hP.1 hP.2)
  obtain ⟨b, u⟩ := b
  obtain ⟨c, u'⟩ := c
  obtain ⟨hi, ⟨T, i5, i6⟩, o, i7, i8, i9⟩ := hi
  dsimp only at hi i5 i8 i9 hs ⊢
  subst i8 i9
  have bq := hC.qc.xq hi.1
  have bm := hC.mc.mq hi.2.1
  have l1 : (1 : Int32) <<< (nI (R 2) &&& 31) = nI (2 ^ R 2) := nI_shl1 (by omega)
  rw [sX1_bricks_L19, sX2_bricks_L27, bq.xd.k5, X_sights bq.xd bq.xt, bp_s, M_n2 bm, l1]
  by_cases hkk : k = 2 ^ R 2
  · rw [if_pos (nI_le (by omega) (by omega)), if_pos (nI_le (by omega) (by omega))]
    exact W2_ret ⟨hi, rfl⟩
  · have hk' : k < 2 ^ R 2 := by omega
    rw [if_neg (nI_ge (by omega) (by omega)), if_neg (nI_ge (by omega) (by omega)), bq.xd.r1002, bq.xd.s1.g77 bq.sc, M_r1013 bm.1, show (6 : Int32) = nI 6 from rfl, M_l5 bm.1 (by decide), bm.2.2.1 6 (by decide), nI_1]
    by_cases hc : (nI k &&& nI (S 6)) = 0
    · rw [if_pos hc, if_pos hc, iteP (bI_e i7), iteP (bI_l i7)]
      match o, i7 with
      | none, i7 =>
        obtain ⟨s1, e1, x1, f1⟩ := X_brk (v9 := bI none) bq hi.2.2 hq (k := k) (by omega)
        obtain ⟨s2, e2, y1, t1⟩ := M_brk (v15 := bI none) bm i5 i6 hw bq.tb hq (k := k) (by omega)
        rw [if_pos rfl, if_pos rfl, e1, b2_s]
        have e2' := e2
        rw [show (6 : Int32) = nI 6 from rfl] at e2'
        rw [e2', b2_s]
        have hJ : ∃ T, TRL s2 mo R T 0 none ∧ ∀ j, j ≠ 6 → T j = S j := ⟨_, t1, fun j hj => by rw [upA_ap, if_neg hj]⟩
        have hI : IQ x mo w sx (gd sm mo) s1 s2 := ⟨hi.1.tr' x1, hi.2.1.tr y1, f1⟩
        by_cases hz : zI (TO R (upA S 6 (S 6 ||| k)) none 0 q none 0).en ≤ 0
        · rw [if_pos hz]
          exact hs hk' (s1, _) (s2, _) ⟨hI, hJ, none, oLt_n, rfl, rfl⟩
        · rw [if_neg hz]
          exact hs hk' (s1, _) (s2, _) ⟨hI, hJ, some k, oLt_s (by omega), rfl, rfl⟩
      | some m', i7 =>
        have hm' := i7 m' rfl
        rw [if_neg (by simp), if_neg (by simp)]
        show W2 (b2 (bp (sX1_bits b (nI k)) fun v33 => bp (sX1_bits b (nI m')) fun v35 => _) _) (b2 (bp (sX2_ones c (nI k)) fun v33 => bp (sX2_ones c (nI m')) fun v35 => _) _) _
        rw [X_bits _ (by omega), bp_s, X_bits _ hm', bp_s, M_ones _ (by omega), bp_s, M_ones _ hm', bp_s]
        by_cases hlt : nI (onesS k) < nI (onesS m')
        · obtain ⟨s1, e1, x1, f1⟩ := X_brk (v9 := bI (some m')) bq hi.2.2 hq (k := k) (by omega)
          obtain ⟨s2, e2, y1, t1⟩ := M_brk (v15 := bI (some m')) bm i5 i6 hw bq.tb hq (k := k) (by omega)
          rw [if_pos hlt, if_pos hlt, e1, b2_s]
          have e2' := e2
          rw [show (6 : Int32) = nI 6 from rfl] at e2'
          rw [e2', b2_s]
          have hJ : ∃ T, TRL s2 mo R T 0 none ∧ ∀ j, j ≠ 6 → T j = S j := ⟨_, t1, fun j hj => by rw [upA_ap, if_neg hj]⟩
          have hI : IQ x mo w sx (gd sm mo) s1 s2 := ⟨hi.1.tr' x1, hi.2.1.tr y1, f1⟩
          by_cases hz : zI (TO R (upA S 6 (S 6 ||| k)) none 0 q none 0).en ≤ 0
          · rw [if_pos hz]
            exact hs hk' (s1, _) (s2, _) ⟨hI, hJ, some m', i7, rfl, rfl⟩
          · rw [if_neg hz]
            exact hs hk' (s1, _) (s2, _) ⟨hI, hJ, some k, oLt_s (by omega), rfl, rfl⟩
        · rw [if_neg hlt, if_neg hlt, b2_s, b2_s]
          exact hs hk' (b, _) (c, _) ⟨hi, ⟨T, i5, i6⟩, some m', i7, rfl, rfl⟩
    · rw [if_neg hc, if_neg hc, b2_s, b2_s]
      exact hs hk' (b, _) (c, _) ⟨hi, ⟨T, i5, i6⟩, o, i7, rfl, rfl⟩
/-- the quarrels of a person -/
def quarS (R : Nat → Nat) (p : Nat) : Nat := itN (fun q s => s ||| if R (80 + 5 * q) = p ∨ R (81 + 5 * q) = p then 2 ^ q else 0) (R 5) 0 0
theorem quarS_bit (R : Nat → Nat) (p i : Nat) : (quarS R p).testBit i = decide (i < R 5 ∧ (R (80 + 5 * i) = p ∨ R (81 + 5 * i) = p)) := itN_sel (fun q => R (80 + 5 * q) = p ∨ R (81 + 5 * q) = p) (R 5) i
theorem X_quarOf {p : Nat} (h : QC σ x w R S) (hp : p < 6) : sX1_quarrelsOf σ x (nI p) = some (nI (quarS R p)) ∧ quarS R p < 8 := by
  have hw := h.wf
  have h5 := hw.2.2.2.2.2.2.1
  have h3 := hw.2.2.2.2.1
  unfold sX1_quarrelsOf quarS
  obtain ⟨hl, hb⟩ := loop_FU (fun n b k => sX1_quarrelsOf_L4 σ x (nI p) n (nI b) k) (fun q s => s ||| if R (80 + 5 * q) = p ∨ R (81 + 5 * q) = p then 2 ^ q else 0) nI (R 5) (fun k b => b < 8) (by omega) 0 (by decide) (fun n k b hk _ => by
      obtain ⟨u1, u2, u3, u4, u5, u6, u7⟩ := hw.2.2.2.2.2.2.2.2.2.2.2.1 k hk
      have l1 : (1 : Int32) <<< (nI k &&& 31) = nI (2 ^ k) := nI_shl1 (by omega)
      rw [sX1_quarrelsOf_L4, h.xd.k5, X_quarrels h.xd h.xt, bp_s, if_neg (nI_ge hk (by omega)), h.xd.r1001, h.xt.i10, h.xt.qg hw hk, bp_s, h.xt.q71 hk, h.xd.r1001, h.xt.i10, h.xt.qg hw hk, bp_s, h.xt.q72 hk, l1, nI_1, iteP (nI_eq' (by omega) (by omega)), iteP (nI_eq' (by omega) (by omega))]
      by_cases c1 : R (80 + 5 * k) = p
      · rw [if_pos c1, bp_s, if_pos (Or.inl c1), nI_or]
      · rw [if_neg c1]
        by_cases c2 : R (81 + 5 * k) = p
        · rw [if_pos c2, bp_s, if_pos (Or.inr c2), nI_or]
        · rw [if_neg c2, bp_s, if_neg (by simp [c1, c2]), show (0 : Int32) = nI 0 from rfl, nI_or]) (fun k b hk hb => by
      refine Nat.or_lt_two_pow (n := 3) hb ?_
      split
      · exact pow_le_of (by omega)
      · decide) (fun n b _ => by
      rw [sX1_quarrelsOf_L4, h.xd.k5, X_quarrels h.xd h.xt, bp_s, if_pos (nI_le (Nat.le_refl _) (by omega))])
  have hl' : sX1_quarrelsOf_L4 σ x (nI p) FU 0 0 = _ := hl
  exact ⟨by rw [hl', bp_s], hb⟩
theorem M_quarOf {p : Nat} (h : MC σ mo R S) (hw : WF R) (hp : p < 6) : sX2_quarrelsOf σ mo (nI p) = some (nI (quarS R p)) := by
  have h5 := hw.2.2.2.2.2.2.1
  have h3 := hw.2.2.2.2.1
  unfold sX2_quarrelsOf quarS
  obtain ⟨hl, hb⟩ := loop_FU (fun n b k => sX2_quarrelsOf_L4 σ mo (nI p) n (nI b) k) (fun q s => s ||| if R (80 + 5 * q) = p ∨ R (81 + 5 * q) = p then 2 ^ q else 0) nI (R 5) (fun k b => True) (by omega) 0 trivial (fun n k b hk _ => by
      obtain ⟨u1, u2, u3, u4, u5, u6, u7⟩ := hw.2.2.2.2.2.2.2.2.2.2.2.1 k hk
      have l1 : (1 : Int32) <<< (nI k &&& 31) = nI (2 ^ k) := nI_shl1 (by omega)
      rw [sX2_quarrelsOf_L4, M_n5 h, if_neg (nI_ge hk (by omega)), M_q0 h (by omega), M_q1 h (by omega), l1, nI_1, iteP (nI_eq' (by omega) (by omega)), iteP (nI_eq' (by omega) (by omega))]
      by_cases c1 : R (80 + 5 * k) = p
      · rw [if_pos c1, bp_s, if_pos (Or.inl c1), nI_or]
      · rw [if_neg c1]
        by_cases c2 : R (81 + 5 * k) = p
        · rw [if_pos c2, bp_s, if_pos (Or.inr c2), nI_or]
        · rw [if_neg c2, bp_s, if_neg (by simp [c1, c2]), show (0 : Int32) = nI 0 from rfl, nI_or]) (fun k b hk hb => trivial) (fun n b _ => by
      rw [sX2_quarrelsOf_L4, M_n5 h, if_pos (nI_le (Nat.le_refl _) (by omega))])
  have hl' : sX2_quarrelsOf_L4 σ mo (nI p) FU 0 0 = _ := hl
  rw [hl', bp_s]
end
