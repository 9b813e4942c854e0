/-! QUERIES: fault, where, trouble, size; person, sight, quarrel; square -/
set_option maxRecDepth 100000
section
variable {x mo : Nat} {σ sx s0 sm : St} {w : Nat → Nat → Nat} {R S T : Nat → Nat} {pl : Option Nat} {oth : Nat}
theorem RL.f19 (h : RL x mo sx sm) (v : Int32) : RL x mo sx (sm.sI 19 mo v) := by
  have e : ∀ F, F ≠ 19 → ∀ a, (sm.sI 19 mo v).fi F a = sm.fi F a := fun F hF a => fi_ne hF
  obtain ⟨⟨b1, b2, ⟨n, b3, b4, b5⟩, b6, b7, b8, b9, b10⟩, ⟨h1, h2, h3⟩, hT⟩ := h
  refine ⟨⟨b1, b2, ⟨n, b3, b4, by rw [e 20 (by decide)]; exact b5⟩, by rw [e 27 (by decide)]; exact b6, b7, b8, ?_, b10⟩, ⟨by rw [e 29 (by decide)]; exact h1, by rw [e 29 (by decide), e 28 (by decide)]; exact h2, h3⟩, ?_⟩
  · unfold KS
    simp only [e 60 (by decide), e 61 (by decide), e 62 (by decide)]
    exact b9
  · rcases hT with ⟨a1, a2, a3, a4, a5, a6⟩ | ⟨w, R, S, a1, ⟨a2, a3, a4, a5⟩, ⟨n, f, P, k1, k2, k3, k4⟩, ⟨n', f', P', k1', k2', k3', k4'⟩⟩
    · exact Or.inl ⟨a1, by rw [e 31 (by decide)]; exact a2, a3, a4, by rw [e 32 (by decide)]; exact a5, by rw [e 33 (by decide)]; exact a6⟩
    · exact Or.inr ⟨w, R, S, a1, ⟨a2, a3, a4, by rw [e 31 (by decide)]; exact a5⟩, ⟨n, f, P, k1, k2, by rw [e 32 (by decide)]; exact k3, k4⟩, ⟨n', f', P', k1', k2', by rw [e 33 (by decide)]; exact k3', k4'⟩⟩
/-- a query of the component that leaves its heap alone, the model's sets thrown only -/
theorem op_same {v u : Int32} (h : RL x mo sx sm) (hv : v = u) : Op x mo sx sm (sx, v) (sm.sI 19 mo 0, u) :=
  ⟨hv, h.f19 0, ⟨by show sx.rc ≤ sx.rc + 18000; omega, by show sx.rs ≤ sx.rs + 85000; omega⟩, rfl⟩
theorem OP_fault (h : RL x mo sx sm) : W2 (bp (sX1_fault sx x) fun v => some (sx, v)) (sX2_fault sm mo) (Op x mo sx sm) := by
  unfold sX1_fault sX2_fault
  rw [g1_5 h.1.1.1, bp_s, M_p19 h.1.2.1, M_g27 (show MS (sm.sI 19 mo _) mo from h.1.2.1), fi_ne (by decide)]
  exact W2_ret (op_same h h.1.2.2.2.1)
theorem OP_trouble (h : RL x mo sx sm) : W2 (bp (sX1_trouble sx x) fun v => some (sx, v)) (sX2_trouble sm mo) (Op x mo sx sm) := by
  unfold sX1_trouble sX2_trouble
  rw [g3_5 h.1.1.1, bp_s, M_p19 h.1.2.1, M_g29 (show MS (sm.sI 19 mo _) mo from h.1.2.1), fi_ne (by decide)]
  exact W2_ret (op_same h h.2.1.1)
theorem OP_where (h : RL x mo sx sm) : W2 (bp (sX1_where sx x) fun v => some (sx, v)) (sX2_where sm mo) (Op x mo sx sm) := by
  unfold sX1_where sX2_where
  rw [g2_5 h.1.1.1, bp_s, M_p19 h.1.2.1, M_g29 (show MS (sm.sI 19 mo _) mo from h.1.2.1), fi_ne (by decide), M_g28 (show MS (sm.sI 19 mo _) mo from h.1.2.1), fi_ne (by decide)]
  have h2 := h.2.1.2.1
  by_cases hc : sm.fi 29 mo = 4
  · rw [if_pos hc] at h2 ⊢
    exact W2_ret (op_same h h2)
  · rw [if_neg hc] at h2 ⊢
    exact W2_ret (op_same h h2)
theorem in_11 {p : Int32} (h : (decide (0 ≤ p) && decide (p ≤ 10)) = true) : p = 0 ∨ p = 1 ∨ p = 2 ∨ p = 3 ∨ p = 4 ∨ p = 5 ∨ p = 6 ∨ p = 7 ∨ p = 8 ∨ p = 9 ∨ p = 10 := by
  have e : (decide (0 ≤ p) && decide (p ≤ 10)) = isB p 11 := in_le (v := p) (n := 10) (by decide)
  rw [e] at h
  obtain ⟨k, hk, rfl⟩ := isB_t (by decide) h
  match k, hk with
  | 0, _ => exact Or.inl rfl
  | 1, _ => exact Or.inr (Or.inl rfl)
  | 2, _ => exact Or.inr (Or.inr (Or.inl rfl))
  | 3, _ => exact Or.inr (Or.inr (Or.inr (Or.inl rfl)))
  | 4, _ => exact Or.inr (Or.inr (Or.inr (Or.inr (Or.inl rfl))))
  | 5, _ => exact Or.inr (Or.inr (Or.inr (Or.inr (Or.inr (Or.inl rfl)))))
  | 6, _ => exact Or.inr (Or.inr (Or.inr (Or.inr (Or.inr (Or.inr (Or.inl rfl))))))
  | 7, _ => exact Or.inr (Or.inr (Or.inr (Or.inr (Or.inr (Or.inr (Or.inr (Or.inl rfl)))))))
  | 8, _ => exact Or.inr (Or.inr (Or.inr (Or.inr (Or.inr (Or.inr (Or.inr (Or.inr (Or.inl rfl))))))))
  | 9, _ => exact Or.inr (Or.inr (Or.inr (Or.inr (Or.inr (Or.inr (Or.inr (Or.inr (Or.inr (Or.inl rfl)))))))))
  | 10, _ => exact Or.inr (Or.inr (Or.inr (Or.inr (Or.inr (Or.inr (Or.inr (Or.inr (Or.inr (Or.inr rfl)))))))))
theorem in_8 {p : Int32} (h : (decide (0 ≤ p) && decide (p ≤ 10)) = false) : (decide (0 ≤ p) && decide (p ≤ 8)) = false ∧ p ≠ 9 ∧ p ≠ 10 := by
  refine ⟨?_, fun q => ?_, fun q => ?_⟩
  · have e8 : (decide (0 ≤ p) && decide (p ≤ 8)) = isB p 9 := in_le (v := p) (n := 8) (by decide)
    have e10 : (decide (0 ≤ p) && decide (p ≤ 10)) = isB p 11 := in_le (v := p) (n := 10) (by decide)
    rw [e8]
    rw [e10] at h
    cases hb : isB p 9
    · rfl
    · obtain ⟨k, hk, rfl⟩ := isB_t (by decide) hb
      rw [isB_nI (by omega) (by decide)] at h
      exact h
  · subst q; revert h; decide
  · subst q; revert h; decide
theorem OP_size (h : RL x mo sx sm) (p : Int32) : W2 (bp (sX1_size sx x p) fun v => some (sx, v)) (sX2_size sm mo p) (Op x mo sx sm) := by
  unfold sX1_size sX2_size
  have hm : MS (sm.sI 19 mo 0) mo := h.1.2.1
  have hx := h.1.1
  obtain ⟨n, b3, b4, b5⟩ := h.1.2.2.1
  rw [M_p19 h.1.2.1]
  by_cases h11 : p = 11
  · rw [if_pos h11, if_pos h11, g0_5 hx.1, bp_s, M_g20 hm, fi_ne (by decide)]
    exact W2_ret (op_same h (b4.trans b5.symm))
  · rw [if_neg h11, if_neg h11, M_g31 hm, fi_ne (by decide), X_in, bp_s, M_in, bp_s, M_in, bp_s]
    cases hin : (decide (0 ≤ p) && decide (p ≤ 10))
    · rw [if_pos b1f, bp_s]
      rcases h.2.2 with h0 | ⟨w, R, S, hT⟩
      · rw [h0.2.1, if_pos (by decide)]
        exact W2_ret (op_same h rfl)
      · obtain ⟨a1, a2, a3⟩ := in_8 hin
        rw [hT.2.1.2.2.2, if_neg (show ¬ nI 1 = 0 by decide), a1, if_pos b1f, if_neg a2, if_neg a3]
        exact W2_ret (op_same h rfl)
    · rw [if_neg b1t, if_neg b1t]
      rcases h.2.2 with h0 | ⟨w, R, S, hT⟩
      · rw [X_no hx h0.1, if_pos rfl, bp_s, h0.2.1, if_pos (by decide)]
        exact W2_ret (op_same h rfl)
      · have hd := hT.1.xd
        have ht := hT.1.xt
        have hmc : MC (sm.sI 19 mo 0) mo R S := ⟨hm, hT.2.1.2.1, hT.2.1.2.2.1, (fi_ne (by decide)).trans hT.2.1.2.2.2⟩
        have iv2 : ∀ {α : Type} (k : Nat → Option α), iv sx 6 (some (x + 2)) k = k (x + 2) := fun k => iv_ob hx.2.2.2.1.2.1 k
        have iv3 : ∀ {α : Type} (k : Nat → Option α), iv sx 6 (some (x + 3)) k = k (x + 3) := fun k => iv_ob hx.2.2.2.1.2.2.1 k
        have hr : ∀ {α : Type} {c : Nat} (hc : c < 9) (k : Int32 → Option α), (gR (sm.sI 19 mo 0) 1011 (some mo) fun v => lI (sm.sI 19 mo 0) 1 v (nI c) k) = k (nI (R c)) := fun hc k => M_n hmc (by omega) k
        have hr0 : ∀ {α : Type} (k : Int32 → Option α), (gR (sm.sI 19 mo 0) 1011 (some mo) fun v => lI (sm.sI 19 mo 0) 1 v 0 k) = k (nI (R 0)) := fun k => hr (c := 0) (by decide) k
        obtain ⟨n2, f2, P2, -, k2, k3, -⟩ := hT.2.2.1
        obtain ⟨n3, f3, P3, -, k5, k6, -⟩ := hT.2.2.2
        have e32 : (sm.sI 19 mo 0).fi 32 mo = nI n2 := (fi_ne (by decide)).trans k3
        have e33 : (sm.sI 19 mo 0).fi 33 mo = nI n3 := (fi_ne (by decide)).trans k6
        rw [hd.r1001, if_neg (by simp), hT.2.1.2.2.2, if_neg (show ¬ nI 1 = 0 by decide)]
        rcases in_11 hin with rfl | rfl | rfl | rfl | rfl | rfl | rfl | rfl | rfl | rfl | rfl
        · rw [if_pos rfl, hd.r1001, ht.g49, bp_s, if_neg (by decide), hr0]
          exact W2_ret (op_same h rfl)
        · rw [if_neg (by decide), if_pos rfl, hd.k5, X_places hd ht, bp_s, bp_s, if_neg (by decide), show (1 : Int32) = nI 1 from rfl, hr (by decide)]
          exact W2_ret (op_same h rfl)
        · rw [if_neg (by decide), if_neg (by decide), if_pos rfl, hd.k5, X_sights hd ht, bp_s, bp_s, if_neg (by decide), show (2 : Int32) = nI 2 from rfl, hr (by decide)]
          exact W2_ret (op_same h rfl)
        · rw [if_neg (by decide), if_neg (by decide), if_neg (by decide), if_pos rfl, hd.k5, X_people hd ht, bp_s, bp_s, if_neg (by decide), show (3 : Int32) = nI 3 from rfl, hr (by decide)]
          exact W2_ret (op_same h rfl)
        · rw [if_neg (by decide), if_neg (by decide), if_neg (by decide), if_neg (by decide), if_pos rfl, hd.r1001, ht.g50, bp_s, if_neg (by decide), show (4 : Int32) = nI 4 from rfl, hr (by decide)]
          exact W2_ret (op_same h rfl)
        · rw [if_neg (by decide), if_neg (by decide), if_neg (by decide), if_neg (by decide), if_neg (by decide), if_pos rfl, hd.k5, X_quarrels hd ht, bp_s, bp_s, if_neg (by decide), show (5 : Int32) = nI 5 from rfl, hr (by decide)]
          exact W2_ret (op_same h rfl)
        · rw [if_neg (by decide), if_neg (by decide), if_neg (by decide), if_neg (by decide), if_neg (by decide), if_neg (by decide), if_pos rfl, hd.r1001, ht.g51, bp_s, if_neg (by decide), show (6 : Int32) = nI 6 from rfl, hr (by decide)]
          exact W2_ret (op_same h rfl)
        · rw [if_neg (by decide), if_neg (by decide), if_neg (by decide), if_neg (by decide), if_neg (by decide), if_neg (by decide), if_neg (by decide), if_pos rfl, hd.r1001, ht.g52, bp_s, if_neg (by decide), show (7 : Int32) = nI 7 from rfl, hr (by decide)]
          exact W2_ret (op_same h rfl)
        · rw [if_neg (by decide), if_neg (by decide), if_neg (by decide), if_neg (by decide), if_neg (by decide), if_neg (by decide), if_neg (by decide), if_neg (by decide), if_pos rfl, hd.r1001, ht.g53, bp_s, if_neg (by decide), show (8 : Int32) = nI 8 from rfl, hr (by decide)]
          exact W2_ret (op_same h rfl)
        · rw [if_neg (by decide), if_neg (by decide), if_neg (by decide), if_neg (by decide), if_neg (by decide), if_neg (by decide), if_neg (by decide), if_neg (by decide), if_neg (by decide), if_pos rfl, g1004_5 hx.1, hx.2.2.1.2.1, iv2, k2.size, bp_s, bp_s, if_pos (by decide), if_pos rfl, M_g32 hm, e32]
          exact W2_ret (op_same h rfl)
        · rw [if_neg (by decide), if_neg (by decide), if_neg (by decide), if_neg (by decide), if_neg (by decide), if_neg (by decide), if_neg (by decide), if_neg (by decide), if_neg (by decide), if_neg (by decide), g1005_5 hx.1, hx.2.2.1.2.2.1, iv3, k5.size, bp_s, bp_s, if_pos (by decide), if_neg (by decide), if_pos rfl, M_g33 hm, e33]
          exact W2_ret (op_same h rfl)
theorem OP_person (h : RL x mo sx sm) (p v : Int32) : W2 (sX1_person sx x p v) (sX2_person sm mo p v) (Op x mo sx sm) := by
  unfold sX1_person sX2_person
  refine op_is h 1 (by decide) (h.isM p) ?_
  intro w R S m hC hm e
  subst e
  have hw := hC.qc.wf
  have hd := hC.qc.xd
  have ht := hC.qc.xt
  have bm := hC.mc
  have h3 := hw.2.2.2.2.1
  have hk := hw.2.2.2.2.2.2.2.2.2.1 m hm
  rw [X_in, bp_s, M_in, bp_s]
  cases hin : (decide (0 ≤ v) && decide (v ≤ 5))
  · rw [if_pos b1f, if_pos b1f]
    exact fin_ref h 1 (by decide)
  · have l26 : (26 : Int32) + 4 * nI m = nI (26 + 4 * m) := by rw [show (26 : Int32) = nI 26 from rfl, show (4 : Int32) = nI 4 from rfl, pk_mul, nI_add]
    have l28 : nI (26 + 4 * m) + 2 = nI (28 + 4 * m) := by rw [show (2 : Int32) = nI 2 from rfl, nI_add]; congr 1; omega
    have l29 : nI (26 + 4 * m) + 3 = nI (29 + 4 * m) := by rw [show (3 : Int32) = nI 3 from rfl, nI_add]; congr 1; omega
    have z0 : (nI (R (29 + 4 * m)) = 0) = (R (29 + 4 * m) = 0) := by rw [nI0, nI_eq' (by omega) (by omega)]
    have hS := hC.qc.tb.1 m (by omega)
    have z1 : (nI (S m) = 0) = (S m = 0) := by rw [nI0, nI_eq' (by omega) (by omega)]
    rw [if_neg b1t, if_neg b1t, hd.r1001, ht.i10, ht.pg hw hm, bp_s, l26, l28, l29, M_n bm (by omega), M_n bm (by omega), M_n bm (by omega), M_n bm (by omega)]
    by_cases c0 : v = 0
    · rw [if_pos c0, if_pos c0, xN_s, X_dvKind ht hw hm, bp_s]
      exact fin_wellI hC hC.iq0 rfl
    · rw [if_neg c0, if_neg c0]
      by_cases c1 : v = 1
      · rw [if_pos c1, if_pos c1, ht.p66 hw hm]
        exact fin_wellI hC hC.iq0 rfl
      · rw [if_neg c1, if_neg c1]
        by_cases c2 : v = 2
        · rw [if_pos c2, if_pos c2, xN_s, X_dvEyes ht hw hm, bp_s, M_eyesOfKind (by omega), bp_s]
          exact fin_wellI hC hC.iq0 rfl
        · rw [if_neg c2, if_neg c2]
          by_cases c3 : v = 3
          · rw [if_pos c3, if_pos c3, ht.p69 hw hm, iteP z0]
            by_cases c : R (29 + 4 * m) = 0
            · rw [if_pos c, c]
              exact fin_wellI hC hC.iq0 rfl
            · rw [if_neg c, M_n bm (by omega), show (1 : Int32) = nI 1 from rfl, pk_sub (by omega), oI_p (by omega)]
              exact fin_wellI hC hC.iq0 rfl
          · rw [if_neg c3, if_neg c3]
            by_cases c4 : v = 4
            · rw [if_pos c4, if_pos c4, hd.r1002, hd.s1.r1036, hd.s1.l hC.qc.sc (by omega), M_r1013 bm.1, M_l5 bm.1 (by omega), bm.2.2.1 m (by omega), iteP z1]
              by_cases c : S m = 0
              · rw [if_pos c, c]
                exact fin_wellI hC hC.iq0 rfl
              · rw [if_neg c, M_r1013 bm.1, M_l5 bm.1 (by omega), bm.2.2.1 m (by omega), show (1 : Int32) = nI 1 from rfl, pk_sub (by omega), oI_p (by omega)]
                exact fin_wellI hC hC.iq0 rfl
            · rw [if_neg c4, if_neg c4, hd.k5, (X_quarOf hC.qc (p := m) (by omega)).1, bp_s, M_kd bm.1, M_quarOf bm hw (by omega), bp_s]
              exact fin_wellI hC hC.iq0 rfl
theorem in_3 {p : Int32} (h : (decide (0 ≤ p) && decide (p ≤ 2)) = true) : p = 0 ∨ p = 1 ∨ p = 2 := by
  have e : (decide (0 ≤ p) && decide (p ≤ 2)) = isB p 3 := in_le (v := p) (n := 2) (by decide)
  rw [e] at h
  obtain ⟨k, hk, rfl⟩ := isB_t (by decide) h
  match k, hk with
  | 0, _ => exact Or.inl rfl
  | 1, _ => exact Or.inr (Or.inl rfl)
  | 2, _ => exact Or.inr (Or.inr rfl)
theorem OP_sight (h : RL x mo sx sm) (p v : Int32) : W2 (sX1_sight sx x p v) (sX2_sight sm mo p v) (Op x mo sx sm) := by
  unfold sX1_sight sX2_sight
  refine op_is h 1 (by decide) (h.isK p) ?_
  intro w R S m hC hm e
  subst e
  have hw := hC.qc.wf
  have hd := hC.qc.xd
  have ht := hC.qc.xt
  have bm := hC.mc
  have h2 := hw.2.2.2.1
  have h6 := hC.qc.tb.2
  rw [X_in, bp_s, M_in, bp_s]
  cases hin : (decide (0 ≤ v) && decide (v ≤ 2))
  · rw [if_pos b1f, if_pos b1f]
    exact fin_ref h 1 (by decide)
  · have l10 : (10 : Int32) + 2 * nI m = nI (10 + 2 * m) := by rw [show (10 : Int32) = nI 10 from rfl, show (2 : Int32) = nI 2 from rfl, pk_mul, nI_add]
    rw [if_neg b1t, if_neg b1t, hd.r1001, ht.r4, ht.i4, ht.sg hm hw, bp_s, ht.s15 hm, l10]
    rcases in_3 hin with rfl | rfl | rfl
    · rw [if_pos rfl, if_neg (by decide), ht.s63 hm, show (0 : Int32) = nI 0 from rfl, nI_add, M_n bm (by omega)]
      exact fin_wellI hC hC.iq0 rfl
    · rw [if_neg (by decide), if_pos rfl, if_neg (by decide), ht.s64 hm, nI_1, M_n bm (by omega), show 10 + 2 * m + 1 = 11 + 2 * m by omega]
      exact fin_wellI hC hC.iq0 rfl
    · have lb : ((nI (S 6) >>> (nI m &&& 31)) &&& 1) = nI (b1 ((S 6).testBit m)) := nI_testBit (by omega) (by omega)
      rw [if_neg (by decide), if_neg (by decide), if_pos (by decide), hd.r1002, hd.s1.g77 hC.qc.sc, X_has (by omega) (by omega), bp_s, M_r1013 bm.1, show (6 : Int32) = nI 6 from rfl, M_l5 bm.1 (by decide), bm.2.2.1 6 (by decide), lb]
      cases (S 6).testBit m
      · rw [if_pos b1f]
        exact fin_wellI hC hC.iq0 rfl
      · rw [if_neg b1t]
        exact fin_wellI hC hC.iq0 rfl
theorem in_5 {p : Int32} (h : (decide (0 ≤ p) && decide (p ≤ 4)) = true) : p = 0 ∨ p = 1 ∨ p = 2 ∨ p = 3 ∨ p = 4 := by
  have e : (decide (0 ≤ p) && decide (p ≤ 4)) = isB p 5 := in_le (v := p) (n := 4) (by decide)
  rw [e] at h
  obtain ⟨k, hk, rfl⟩ := isB_t (by decide) h
  match k, hk with
  | 0, _ => exact Or.inl rfl
  | 1, _ => exact Or.inr (Or.inl rfl)
  | 2, _ => exact Or.inr (Or.inr (Or.inl rfl))
  | 3, _ => exact Or.inr (Or.inr (Or.inr (Or.inl rfl)))
  | 4, _ => exact Or.inr (Or.inr (Or.inr (Or.inr rfl)))
theorem OP_quarrel (h : RL x mo sx sm) (p v : Int32) : W2 (sX1_quarrel sx x p v) (sX2_quarrel sm mo p v) (Op x mo sx sm) := by
  unfold sX1_quarrel sX2_quarrel
  refine op_is h 1 (by decide) (h.isQ p) ?_
  intro w R S m hC hm e
  subst e
  have hw := hC.qc.wf
  have hd := hC.qc.xd
  have ht := hC.qc.xt
  have bm := hC.mc
  have h5 := hw.2.2.2.2.2.2.1
  rw [X_in, bp_s, M_in, bp_s]
  cases hin : (decide (0 ≤ v) && decide (v ≤ 4))
  · rw [if_pos b1f, if_pos b1f]
    exact fin_ref h 1 (by decide)
  · rw [if_neg b1t, if_neg b1t, hd.r1001, ht.i10, ht.qg hw hm, bp_s]
    rcases in_5 hin with rfl | rfl | rfl | rfl | rfl
    · rw [if_pos rfl, ht.q71 hm, show (0 : Int32) = nI 0 from rfl, M_qj bm (by omega) (by decide)]
      exact fin_wellI hC hC.iq0 rfl
    · rw [if_neg (by decide), if_pos rfl, ht.q72 hm, show (1 : Int32) = nI 1 from rfl, M_qj bm (by omega) (by decide)]
      exact fin_wellI hC hC.iq0 rfl
    · rw [if_neg (by decide), if_neg (by decide), if_pos rfl, ht.q73 hm, show (2 : Int32) = nI 2 from rfl, M_qj bm (by omega) (by decide)]
      exact fin_wellI hC hC.iq0 rfl
    · rw [if_neg (by decide), if_neg (by decide), if_neg (by decide), if_pos rfl, ht.q74 hm, show (3 : Int32) = nI 3 from rfl, M_qj bm (by omega) (by decide)]
      exact fin_wellI hC hC.iq0 rfl
    · rw [if_neg (by decide), if_neg (by decide), if_neg (by decide), if_neg (by decide), ht.q75 hm, show (4 : Int32) = nI 4 from rfl, M_qj bm (by omega) (by decide)]
      exact fin_wellI hC hC.iq0 rfl
/-- all eyes on a place, all day -/
theorem W2_all (hC : CT x mo sx s0 sm w R S) {τ : St} (hm : MC τ mo R S) (ht : TRL τ mo R S 0 none) {p : Nat} (hp : p < 6) : ∃ v, v ≤ 720 ∧ sX1_square_L33 sx x (nI p) FU 0 0 = some (nI v) ∧ sX2_allEyes τ mo (nI p) = some (nI v) := by
  obtain ⟨a, b, e1, e2, v, hv, rfl, rfl⟩ := W2_loop (fun n (c : Int32) k => sX1_square_L33 sx x (nI p) n c (nI k)) (fun n (c : Int32) k => sX2_allEyes_L4 τ mo (nI p) n c (nI k)) 60 (fun k a b => ∃ v, v ≤ 12 * k ∧ a = nI v ∧ b = nI v) (Q := fun a b => ∃ v, v ≤ 720 ∧ a = nI v ∧ b = nI v) (by decide) (fun n m k b c hk hi hs => by
    obtain ⟨v, hv, rfl, rfl⟩ := hi
    rw [sX1_square_L33, sX2_allEyes_L4]
    by_cases hkk : k = 60
    · subst hkk
      rw [if_pos (by decide), if_pos (by decide)]
      exact W2_ret ⟨v, hv, rfl, rfl⟩
    · have hk' : k < 60 := by omega
      have hn : ¬ (59 : Int32) < nI k := nI_nlt (a := 59) (b := k) (by omega) (by omega)
      obtain ⟨a1, a2⟩ := X_wat hC.qc (p := p) (t := k) hp hk'
      obtain ⟨a3, a4⟩ := X_eye hC.qc hC.fl np (s := watchS R S p k) (by omega)
      rw [if_neg hn, if_neg hn, hC.qc.xd.r1002, hC.qc.xd.s1.i21, a1, bp_s, hC.qc.xd.k5, a3, bp_s, M_kd hm.1, M_wat hm ht hC.qc.wf hC.qc.tb hp hk', bp_s, M_kd hm.1, M_eye hm ht hC.qc.wf (by omega), bp_s, nI_add, nI_1]
      exact hs hk' _ _ ⟨_, by omega, rfl, rfl⟩) 0 (Nat.zero_le _) 0 0 ⟨0, by decide, rfl, rfl⟩
  refine ⟨v, hv, e1, ?_⟩
  have e2' : sX2_allEyes_L4 τ mo (nI p) FU 0 0 = some (nI v) := e2
  unfold sX2_allEyes
  rw [e2', bp_s]
theorem OP_square (h : RL x mo sx sm) : W2 (sX1_square sx x) (sX2_square sm mo) (Op x mo sx sm) := by
  unfold sX1_square sX2_square
  refine op_town h ?_
  intro w R S hC
  have hw := hC.qc.wf
  have h1 := hw.2.1
  have h6 := hw.2.2.1
  obtain ⟨τ, e, m1, m2, m3⟩ := hC.now
  obtain ⟨v0, hv0, a0, b0⟩ := W2_all hC m2 m3 (p := 0) (by decide)
  have b0' : sX2_allEyes τ mo 0 = some (nI v0) := b0
  have a0' : sX1_square_L33 sx x 0 FU 0 0 = some (nI v0) := a0
  rw [M_kd hC.ms, e, bp_s, M_kd m2.1, b0', bp_s]
  have hstep : sX1_square_L19 sx x FU 0 (-1) 0 = sX1_square_L19 sx x 99999 0 (nI v0) 1 := by
    have hlt : (-1 : Int32) < nI v0 := by
      rw [show (-1 : Int32) = zI (-1) from rfl, nI_z, zI_lt (by omega) (by omega) (by omega) (by omega)]
      omega
    have hp : ¬ nI (R 1) ≤ 0 := nI_nle (by omega) (by omega)
    show sX1_square_L19 sx x (99999 + 1) 0 (-1) 0 = _
    rw [sX1_square_L19, hC.qc.xd.k5, X_places hC.qc.xd hC.qc.xt, bp_s, if_neg hp, a0', bp_s, if_pos hlt, b2_s]
    rfl
  have hl : ∀ d k n m (b : Int32) v, k + d = R 1 → v ≤ 720 → d < n → d < m → W2 (sX1_square_L19 sx x n b (nI v) (nI k)) (sX2_square_L31 τ mo m b (nI v) (nI k)) (fun a b => a = b) := by
    intro d
    induction d with
    | zero =>
      intro k n m b v hk hv hn hm
      obtain ⟨n, rfl⟩ : ∃ j, n = j + 1 := ⟨n - 1, by omega⟩
      obtain ⟨m, rfl⟩ : ∃ j, m = j + 1 := ⟨m - 1, by omega⟩
      rw [sX1_square_L19, sX2_square_L31, hC.qc.xd.k5, X_places hC.qc.xd hC.qc.xt, bp_s, M_n1 m2, if_pos (nI_le (by omega) (by omega)), if_pos (nI_le (by omega) (by omega))]
      exact W2_ret rfl
    | succ d ih =>
      intro k n m b v hk hv hn hm
      obtain ⟨n, rfl⟩ : ∃ j, n = j + 1 := ⟨n - 1, by omega⟩
      obtain ⟨m, rfl⟩ : ∃ j, m = j + 1 := ⟨m - 1, by omega⟩
      obtain ⟨u, hu, a1, a2⟩ := W2_all hC m2 m3 (p := k) (by omega)
      rw [sX1_square_L19, sX2_square_L31, hC.qc.xd.k5, X_places hC.qc.xd hC.qc.xt, bp_s, M_n1 m2, if_neg (nI_ge (by omega) (by omega)), if_neg (nI_ge (by omega) (by omega)), a1, bp_s, M_kd m2.1, a2, bp_s, nI_1]
      split
      · exact ih (k + 1) n m _ u (by omega) hu (by omega) (by omega)
      · exact ih (k + 1) n m _ v (by omega) hv (by omega) (by omega)
  obtain ⟨a, b, e1, e2, rfl⟩ := hl (R 1 - 1) 1 99999 FU 0 v0 (by omega) hv0 (by omega) (by show _ < 100000; omega)
  have e1' : sX1_square_L19 sx x 99999 0 (nI v0) 1 = some a := e1
  have e2' : sX2_square_L31 τ mo FU 0 (nI v0) 1 = some a := e2
  rw [hstep, e1', bp_s, e2', bp_s]
  exact fin_well hC (Xq.rf ..) m1 hC.fl rfl
end
