/-! QUERIES: unsure wits, the model; sets that fit -/
set_option maxRecDepth 100000
section
variable {x mo : Nat} {σ sx s0 sm : St} {w : Nat → Nat → Nat} {R S T : Nat → Nat} {pl : Option Nat} {oth : Nat}
/-- what stays the same at the model while wits are tried -/
def Km (mo : Nat) (σ τ : St) : Prop := (∀ F, 41 ≤ F → F ≤ 44 → τ.fi F mo = σ.fi F mo) ∧ τ.ai (mo + 11) = σ.ai (mo + 11)
theorem Km.tr {σ τ υ : St} (h : Km mo σ τ) (k : Km mo τ υ) : Km mo σ υ := ⟨fun F h1 h2 => (k.1 F h1 h2).trans (h.1 F h1 h2), k.2.trans h.2⟩
theorem c6_km {F : Nat} (h1 : 41 ≤ F) : c6 F = false := by
  unfold c6
  rw [List.contains_eq_mem, decide_eq_false_iff_not]
  simp
  omega
theorem Mf.km {σ τ : St} (h : Mf c6 σ τ) : Km mo σ τ := ⟨fun F h1 h2 => h.2.2.2.2.2.2.2 F mo (c6_km h1), by rw [h.2.2.2.2.1]⟩
theorem M_wrong {u : Nat} (h : MC σ mo R S) (hw : WF R) (hu : u < 16) : ∃ τ, sX2_wrongBy σ mo (nI u) = some (τ, zI (wrS R u 0 (R 5))) ∧ Mq mo σ τ ∧ Km mo σ τ := by
  have hw0 := hw
  obtain ⟨w0, w1, w2, w3, w4, w5, w6, w7, w8, w9, w10, w11, w12, w13⟩ := hw
  obtain ⟨τ, e, h1, ⟨h2, h3⟩, h4, h5, h6⟩ := M_asNow h.1 h.2.1 h.2.2.1 hw0
  have m1 := h.mq h1
  -- the row of zeros
  obtain ⟨τ1, e1, g1, rfl, hg1⟩ := Wp_loop (fun n (b : St) k => sX2_wrongBy_L6 mo n b (nI k)) 8 (fun k b => ∃ g, b = τ.aI (mo + 8) g ∧ ∀ i, i < k → g i = nI 0) (Q := fun b => ∃ g, b = τ.aI (mo + 8) g ∧ ∀ i, i < 8 → g i = nI 0) (by decide) (fun n k b hk hi hn => by
    obtain ⟨g, rfl, hg⟩ := hi
    have bm := m1.mq ((Mq.rf mo τ).aI (a := mo + 8) (g := g) (by omega) (by omega))
    rw [sX2_wrongBy_L6]
    by_cases hkk : k = 8
    · subst hkk
      rw [if_pos (by decide)]
      exact ⟨_, rfl, g, rfl, hg⟩
    · have hk' : k < 8 := by omega
      rw [if_neg (show ¬ (8 : Int32) ≤ nI k from nI_ge (a := k) (b := 8) hk' (by decide)), M_r1016 bm.1, M_t8 bm.1 hk', aI_aI, nI_1]
      refine hn hk' _ ⟨_, rfl, fun i hi => ?_⟩
      rw [ai_aI, up1_eq, upA_ap]
      split
      · rfl
      · exact hg i (by omega)) 0 (Nat.zero_le _) τ ⟨τ.ai (mo + 8), (aI_self ..).symm, fun i hi => by omega⟩
  have n1 : Mq mo τ (τ.aI (mo + 8) g1) := (Mq.rf mo τ).aI (by omega) (by omega)
  have m2 := m1.mq n1
  -- the wits
  obtain ⟨τ2, e2, g2, rfl, hg2⟩ := Wp_loop (fun n (b : St) k => sX2_wrongBy_L27 mo (nI u) n b (nI k)) (R 7) (fun k b => ∃ g, b = (τ.aI (mo + 8) g1).aI (mo + 9) g ∧ ∀ m, m < R 3 → g m = nI (itN (fun k v => if R (95 + 2 * k) = m ∧ u.testBit k = true then R (96 + 2 * k) else v) k 0 (R (28 + 4 * m)))) (Q := fun b => ∃ g, b = (τ.aI (mo + 8) g1).aI (mo + 9) g ∧ ∀ m, m < R 3 → g m = nI (witS R u m)) (by omega) (fun n k b hk hi hn => by
    obtain ⟨g, rfl, hg⟩ := hi
    have bm := m2.mq ((Mq.rf mo (τ.aI (mo + 8) g1)).aI (a := mo + 9) (g := g) (by omega) (by omega))
    rw [sX2_wrongBy_L27, M_n7 bm]
    by_cases hkk : k = R 7
    · rw [if_pos (nI_le (by omega) (by omega))]
      exact ⟨_, rfl, g, rfl, fun m hm => by rw [hg m hm, hkk]; rfl⟩
    · have hk' : k < R 7 := by omega
      have hu7 := w12 k hk'
      have l95 : (95 : Int32) + 2 * nI k = nI (95 + 2 * k) := by rw [show (95 : Int32) = nI 95 from rfl, show (2 : Int32) = nI 2 from rfl, pk_mul, nI_add]
      have l96 : nI (95 + 2 * k) + 1 = nI (96 + 2 * k) := by rw [nI_1]; congr 1; omega
      rw [if_neg (nI_ge (by omega) (by omega)), M_hasBit (by omega) (by omega), bp_s, M_r1017 bm.1, M_r1011 bm.1, l95, l96, M_l3 bm.1 (by omega), bm.2.1 _ (by omega), M_r1011 bm.1, M_l3 bm.1 (by omega), bm.2.1 _ (by omega), M_t9 bm.1 (by omega), aI_aI, nI_1]
      cases hb : u.testBit k
      · rw [if_pos b1f, bp_s]
        refine hn hk' _ ⟨g, rfl, fun m hm => ?_⟩
        rw [itN_last, Nat.zero_add, if_neg (by simp [hb])]
        exact hg m hm
      · rw [if_neg b1t, bp_s]
        refine hn hk' _ ⟨_, rfl, fun m hm => ?_⟩
        rw [itN_last, Nat.zero_add, ai_aI, up1_eq, upA_ap]
        by_cases hm' : R (95 + 2 * k) = m
        · rw [if_pos hm'.symm, if_pos ⟨hm', hb⟩]
        · rw [if_neg (fun q => hm' q.symm), if_neg (fun q => hm' q.1)]
          exact hg m hm) 0 (Nat.zero_le _) (τ.aI (mo + 8) g1) ⟨(τ.aI (mo + 8) g1).ai (mo + 9), (aI_self ..).symm, fun m hm => by
      rw [ai_aI, up1_ne (by omega)]
      exact h5 m hm⟩
  have n2 : Mq mo (τ.aI (mo + 8) g1) ((τ.aI (mo + 8) g1).aI (mo + 9) g2) := (Mq.rf mo _).aI (by omega) (by omega)
  have m3 := m2.mq n2
  have ht : TRL ((τ.aI (mo + 8) g1).aI (mo + 9) g2) mo R Z0 u none := by
    refine ⟨fun i hi => ?_, fun m hm => ?_, fun m hm => ?_⟩
    · rw [ai_aI, up1_ne (by omega), ai_aI, up1_eq]
      exact hg1 i hi
    · rw [ai_aI, up1_eq]
      exact hg2 m hm
    · rw [ai_aI, up1_ne (by omega), ai_aI, up1_ne (by omega), eyP_n]
      exact h6 m hm
  have k3 : Km mo σ ((τ.aI (mo + 8) g1).aI (mo + 9) g2) := ⟨fun F _ _ => h2 F mo, by rw [ai_aI, up1_ne (by omega), ai_aI, up1_ne (by omega)]; exact h3⟩
  have x3 := h1.tr (n1.tr n2)
  generalize hτ3 : (τ.aI (mo + 8) g1).aI (mo + 9) g2 = τ3 at m3 ht k3 x3 e2
  obtain ⟨v, e4, hv⟩ := Wp_loop (fun n (b : St) k => sX2_wrongBy_L83 mo n b (nI k)) (R 5) (fun k b => Mf c6 τ3 b ∧ wrS R u k (R 5 - k) = wrS R u 0 (R 5)) (Q := fun v => ∃ b, Mf c6 τ3 b ∧ (v = .inl (b, zI (wrS R u 0 (R 5))) ∨ (v = .inr b ∧ wrS R u 0 (R 5) = -2))) (by omega) (fun n k b hk hi hn => by
    obtain ⟨i1, i2⟩ := hi
    have hc6 : ∀ F, scr F = false → c6 F = false := fun F hF => by
      simp only [scr, c6, List.contains_iff_mem] at *
      simp at hF ⊢
      omega
    have bm := m3.mq (i1.mq mo hc6)
    have bt := ht.mf i1
    rw [sX2_wrongBy_L83, M_n5 bm]
    by_cases hkk : k = R 5
    · rw [if_pos (nI_le (by omega) (by omega))]
      rw [hkk, Nat.sub_self] at i2
      exact ⟨_, rfl, b, i1, Or.inr ⟨rfl, i2.symm⟩⟩
    · have hk' : k < R 5 := by omega
      have h60 := w13 k hk'
      obtain ⟨ρ, e3, y1, y2, y3, y4, y5⟩ := M_told bm bt hw0 Z0_tb hk'
      have e3' : R 5 - k = (R 5 - (k + 1)) + 1 := by omega
      rw [e3', wrS] at i2
      have l103 : (103 : Int32) + nI k = nI (103 + k) := nI_add 103 k
      have z0 : (nI (R (103 + k)) = 0) = (R (103 + k) = 0) := by rw [nI0, nI_eq' (by omega) (by omega)]
      rw [if_neg (nI_ge (by omega) (by omega)), l103, M_n bm (by omega), iteP z0, nI_1]
      by_cases h0 : R (103 + k) = 0
      · rw [if_pos h0]
        rw [if_neg (fun a => a.1 h0)] at i2
        exact hn hk' b ⟨i1, i2⟩
      · rw [if_neg h0, M_kd bm.1, e3, bp_s, M_g35 y2.1, y4.2.1, M_n y2 (by omega), show (1 : Int32) = nI 1 from rfl, pk_sub (by omega)]
        by_cases hz : zI (TO R Z0 none u k none 0).at' = nI (R (103 + k) - 1)
        · rw [if_pos hz]
          rw [if_neg (fun a => a.2 hz)] at i2
          exact hn hk' ρ ⟨i1.tr y5, i2⟩
        · rw [if_neg hz]
          rw [if_pos ⟨h0, hz⟩] at i2
          exact ⟨_, rfl, ρ, i1.tr y5, Or.inl (by rw [← i2, nI_z])⟩) 0 (Nat.zero_le _) τ3 ⟨Mf.rf .., rfl⟩
  obtain ⟨b, hb, hv⟩ := hv
  have hc6 : ∀ F, scr F = false → c6 F = false := fun F hF => by
    simp only [scr, c6, List.contains_iff_mem] at *
    simp at hF ⊢
    omega
  have e1' : sX2_wrongBy_L6 mo FU τ 0 = some (τ.aI (mo + 8) g1) := e1
  have e2' : sX2_wrongBy_L27 mo (nI u) FU (τ.aI (mo + 8) g1) 0 = some τ3 := e2
  have e4' : sX2_wrongBy_L83 mo FU τ3 0 = some v := e4
  refine ⟨b, ?_, x3.tr (hb.mq mo hc6), k3.tr hb.km⟩
  unfold sX2_wrongBy
  rw [M_kd h.1, e, bp_s, e1', bp_s, e2', bp_s, e4']
  rcases hv with rfl | ⟨rfl, hv⟩
  · rw [lc_l]
  · rw [lc_r, hv]; rfl
theorem XO.r1006 {α : Type} (h : XO σ x) (k : Option Nat → Option α) : gR σ 1006 (some x) k = k (some (x + 4)) := by rw [g1006_5 h.1, h.2.2.1.2.2.2.1]
theorem XO.l4 {α : Type} {n : Nat} (h : XO σ x) (hn : n < 4) (k : Int32 → Option α) : lI σ 1 (some (x + 4)) (nI n) k = k (σ.ai (x + 4) n) := lI_ap h.2.2.2.1.2.2.2.1 h.2.2.2.2.2.1 hn (by decide) k
theorem XO.t4 {α : Type} {n : Nat} (h : XO σ x) (hn : n < 4) (v : Int32) (k : St → Option α) : tI σ (some (x + 4)) (nI n) v k = k (σ.aI (x + 4) (upA (σ.ai (x + 4)) n v)) := tI_ap h.2.2.2.1.2.2.2.1 (by have := h.2.1; omega) h.2.2.2.2.2.1 hn (by decide) v k
/-- what both have counted of the sets that fit -/
def FS (x mo : Nat) (a b : St) : Prop := a.fi 13 x = b.fi 41 mo ∧ a.fi 14 x = b.fi 42 mo ∧ a.fi 15 x = b.fi 43 mo ∧ ∀ k, k < 4 → a.ai (x + 4) k = b.ai (mo + 11) k
def fnd (a b : Int32) : Prop := (a = -2 ∧ b = -1) ∨ ∃ m, m < 16 ∧ a = nI m ∧ b = nI m
theorem W2_fit (hC : CT x mo sx s0 sm w R S) (i1 : Int32) : W2 (sX1_fitting sx x i1) (sX2_seekSets s0 mo i1) (fun a b => IQ x mo w sx s0 a.1 b.1 ∧ FS x mo a.1 b.1 ∧ fnd a.2 b.2) := by
  have hw := hC.qc.wf
  have h7 := hw.2.2.2.2.2.2.2.1
  have hp : 2 ^ R 7 ≤ 16 := Nat.le_trans (Nat.pow_le_pow_right (by decide) h7) (by decide)
  have l1 : (1 : Int32) <<< (nI (R 7) &&& 31) = nI (2 ^ R 7) := nI_shl1 (by omega)
  unfold sX1_fitting sX2_seekSets
  have xa : Xq x (w 0 2) sx ((sx.sI 13 x 0).sI 14 x 0) := ((Xq.rf ..).sx (by decide) (by decide)).sx (by decide) (by decide)
  have qa := hC.qc.xq xa
  have xb : Xq x (w 0 2) sx (((sx.sI 13 x 0).sI 14 x 0).sI 15 x (nI (2 ^ R 7) - 1)) := xa.sx (by decide) (by decide)
  have ya : Mq mo s0 ((s0.sI 41 mo 0).sI 42 mo 0) := ((Mq.rf ..).sI rfl).sI rfl
  have ma := hC.mc.mq ya
  have yb : Mq mo s0 (((s0.sI 41 mo 0).sI 42 mo 0).sI 43 mo (nI (2 ^ R 7) - 1)) := ya.sI rfl
  have fb : FL (((sx.sI 13 x 0).sI 14 x 0).sI 15 x (nI (2 ^ R 7) - 1)) x none 0 false := ((hC.fl.sI (by decide) (by decide) (by decide)).sI (by decide) (by decide) (by decide)).sI (by decide) (by decide) (by decide)
  rw [p13_5 hC.qc.xd.1.1 hC.qc.xd.1.2.1, p14_5 (σ := sx.sI 13 x 0) hC.qc.xd.1.1 hC.qc.xd.1.2.1, qa.xd.r1001, qa.xt.g52, l1, p15_5 qa.xd.1.1 qa.xd.1.2.1, M_p41 hC.ms, M_p42 (show MS (s0.sI 41 mo _) mo from hC.ms), M_n7 ma, l1, M_p43 ma.1]
  have e13 : (((sx.sI 13 x 0).sI 14 x 0).sI 15 x (nI (2 ^ R 7) - 1)).fi 13 x = (((s0.sI 41 mo 0).sI 42 mo 0).sI 43 mo (nI (2 ^ R 7) - 1)).fi 41 mo := by
    rw [fi_ne (by decide), fi_ne (by decide), fi_eq, fi_ne (by decide), fi_ne (by decide), fi_eq]
  have e14 : (((sx.sI 13 x 0).sI 14 x 0).sI 15 x (nI (2 ^ R 7) - 1)).fi 14 x = (((s0.sI 41 mo 0).sI 42 mo 0).sI 43 mo (nI (2 ^ R 7) - 1)).fi 42 mo := by
    rw [fi_ne (by decide), fi_eq, fi_ne (by decide), fi_eq]
  have e15 : (((sx.sI 13 x 0).sI 14 x 0).sI 15 x (nI (2 ^ R 7) - 1)).fi 15 x = (((s0.sI 41 mo 0).sI 42 mo 0).sI 43 mo (nI (2 ^ R 7) - 1)).fi 43 mo := by
    rw [fi_eq, fi_eq]
  generalize ((sx.sI 13 x 0).sI 14 x 0).sI 15 x (nI (2 ^ R 7) - 1) = sb at xb fb e13 e14 e15
  generalize ((s0.sI 41 mo 0).sI 42 mo 0).sI 43 mo (nI (2 ^ R 7) - 1) = tb at yb e13 e14 e15
  -- zeros
  refine W2_bp (P := fun a b => IQ x mo w sx s0 a b ∧ FS x mo a b) (W2_loop (fun n (b : St) k => sX1_fitting_L30 x n b (nI k)) (fun n (b : St) k => sX2_seekSets_L29 mo n b (nI k)) 4 (fun k a b => IQ x mo w sx s0 a b ∧ (a.fi 13 x = b.fi 41 mo ∧ a.fi 14 x = b.fi 42 mo ∧ a.fi 15 x = b.fi 43 mo) ∧ ∀ j, j < k → a.ai (x + 4) j = b.ai (mo + 11) j) (by decide) (fun n m k b c hk hi hs => ?_) 0 (Nat.zero_le _) sb tb ⟨⟨xb, yb, fb⟩, ⟨e13, e14, e15⟩, fun j hj => by omega⟩) (fun a b hP => ?_)
  · obtain ⟨⟨i1, i2, i3⟩, ⟨j1, j2, j3⟩, i4⟩ := hi
    have bq := hC.qc.xq i1
    have bm := hC.mc.mq i2
    rw [sX1_fitting_L30, sX2_seekSets_L29]
    by_cases hkk : k = 4
    · subst hkk
      rw [if_pos (by decide), if_pos (by decide)]
      exact W2_ret ⟨⟨i1, i2, i3⟩, j1, j2, j3, i4⟩
    · have hk' : k < 4 := by omega
      have hn : ¬ (4 : Int32) ≤ nI k := nI_ge (a := k) (b := 4) hk' (by decide)
      rw [if_neg hn, if_neg hn, bq.xd.1.r1006, bq.xd.1.t4 hk', M_r1019 bm.1, M_t11 bm.1 hk', nI_1]
      refine hs hk' _ _ ⟨⟨i1.ao, i2.aI (by omega) (by omega), i3⟩, ⟨j1, j2, j3⟩, fun j hj => ?_⟩
      rw [ai_aI, up1_eq, ai_aI, up1_eq, upA_ap, upA_ap]
      split
      · rfl
      · exact i4 j (by omega)
  -- all sets
  obtain ⟨hI, hF⟩ := hP
  refine W2_b2 (P := fun a b => IQ x mo w sx s0 a.1 b.1 ∧ FS x mo a.1 b.1 ∧ fnd a.2 b.2) (W2_loop (fun n (b : St × Int32) k => sX1_fitting_L50 x i1 n b.1 b.2 (nI k)) (fun n (b : St × Int32) k => sX2_seekSets_L49 mo i1 n b.1 b.2 (nI k)) (2 ^ R 7) (fun k a b => IQ x mo w sx s0 a.1 b.1 ∧ FS x mo a.1 b.1 ∧ fnd a.2 b.2) (by omega) (fun n m k b c hk hi hs => ?_) 0 (Nat.zero_le _) (a, -2) (b, -1) ⟨hI, hF, Or.inl ⟨rfl, rfl⟩⟩) (fun a f b g hP => ?_)
  · obtain ⟨b, v⟩ := b
    obtain ⟨c, v'⟩ := c
    obtain ⟨⟨i1', i2, i3⟩, ⟨j1, j2, j3, j4⟩, i5⟩ := hi
    dsimp only at i1' i2 i3 j1 j2 j3 j4 i5 hs ⊢
    have bq := hC.qc.xq i1'
    have bm := hC.mc.mq i2
    rw [sX1_fitting_L50, sX2_seekSets_L49, bq.xd.r1001, bq.xt.g52, M_n7 bm, l1]
    by_cases hkk : k = 2 ^ R 7
    · rw [if_pos (nI_le (by omega) (by omega)), if_pos (nI_le (by omega) (by omega))]
      exact W2_ret ⟨⟨i1', i2, i3⟩, ⟨j1, j2, j3, j4⟩, i5⟩
    · have hk' : k < 2 ^ R 7 := by omega
      obtain ⟨s1, e1, x1, f1, k1⟩ := X_wrong bq i3 (u := k) (by omega)
      obtain ⟨s2, e2, y1, k2⟩ := M_wrong bm hw (u := k) (by omega)
      have q1 := bq.xq x1
      have n1 := bm.mq y1
      have hx1 := i1'.tr' x1
      have hy1 := i2.tr y1
      have g13 : s1.fi 13 x = s2.fi 41 mo := by rw [k1.1 13 (by decide) (by decide), k2.1 41 (by decide) (by decide)]; exact j1
      have g14 : s1.fi 14 x = s2.fi 42 mo := by rw [k1.1 14 (by decide) (by decide), k2.1 42 (by decide) (by decide)]; exact j2
      have g15 : s1.fi 15 x = s2.fi 43 mo := by rw [k1.1 15 (by decide) (by decide), k2.1 43 (by decide) (by decide)]; exact j3
      have g4 : ∀ k, k < 4 → s1.ai (x + 4) k = s2.ai (mo + 11) k := fun k hk => by rw [k1.2, k2.2]; exact j4 k hk
      rw [if_neg (nI_ge (by omega) (by omega)), if_neg (nI_ge (by omega) (by omega)), bq.xd.k5, e1, bd_s, M_kd bm.1, e2, bd_s, nI_1]
      by_cases hz : zI (wrS R k 0 (R 5)) = -2
      · rw [if_pos hz, if_pos hz, g13_5 q1.xd.1.1, g13, M_g41 n1.1]
        have hfn : ∃ r r' : Int32, (if s2.fi 41 mo = i1 then some (nI k) else some v) = some r ∧ (if s2.fi 41 mo = i1 then some (nI k) else some v') = some r' ∧ fnd r r' := by
          by_cases hc : s2.fi 41 mo = i1
          · exact ⟨nI k, nI k, if_pos hc, if_pos hc, Or.inr ⟨k, by omega, rfl, rfl⟩⟩
          · exact ⟨v, v', if_neg hc, if_neg hc, i5⟩
        obtain ⟨r, r', hr, hr', hrr⟩ := hfn
        rw [hr, hr', bp_s, bp_s, g13_5 q1.xd.1.1, g13, M_g41 n1.1, p13_5 q1.xd.1.1 q1.xd.1.2.1, M_p41 n1.1, g14_5 (σ := s1.sI 13 x _) q1.xd.1.1, fi_ne (by decide), g14, M_g42 (show MS (s2.sI 41 mo _) mo from n1.1), fi_ne (by decide), p14_5 (σ := s1.sI 13 x _) q1.xd.1.1 q1.xd.1.2.1, M_p42 (show MS (s2.sI 41 mo _) mo from n1.1), g15_5 (σ := (s1.sI 13 x _).sI 14 x _) q1.xd.1.1, fi_ne (by decide), fi_ne (by decide), g15, M_g43 (show MS ((s2.sI 41 mo _).sI 42 mo _) mo from n1.1), fi_ne (by decide), fi_ne (by decide), p15_5 (σ := (s1.sI 13 x _).sI 14 x _) q1.xd.1.1 q1.xd.1.2.1, M_p43 (show MS ((s2.sI 41 mo _).sI 42 mo _) mo from n1.1)]
        have xc : Xq x (w 0 2) sx (((s1.sI 13 x (s2.fi 41 mo + 1)).sI 14 x (s2.fi 42 mo ||| nI k)).sI 15 x (s2.fi 43 mo &&& nI k)) := ((hx1.sx (by decide) (by decide)).sx (by decide) (by decide)).sx (by decide) (by decide)
        have yc : Mq mo s0 (((s2.sI 41 mo (s2.fi 41 mo + 1)).sI 42 mo (s2.fi 42 mo ||| nI k)).sI 43 mo (s2.fi 43 mo &&& nI k)) := ((hy1.sI rfl).sI rfl).sI rfl
        have fc : FL (((s1.sI 13 x (s2.fi 41 mo + 1)).sI 14 x (s2.fi 42 mo ||| nI k)).sI 15 x (s2.fi 43 mo &&& nI k)) x none 0 false := ((f1.sI (by decide) (by decide) (by decide)).sI (by decide) (by decide) (by decide)).sI (by decide) (by decide) (by decide)
        have Fc : FS x mo (((s1.sI 13 x (s2.fi 41 mo + 1)).sI 14 x (s2.fi 42 mo ||| nI k)).sI 15 x (s2.fi 43 mo &&& nI k)) (((s2.sI 41 mo (s2.fi 41 mo + 1)).sI 42 mo (s2.fi 42 mo ||| nI k)).sI 43 mo (s2.fi 43 mo &&& nI k)) := ⟨by rw [fi_ne (by decide), fi_ne (by decide), fi_eq, fi_ne (by decide), fi_ne (by decide), fi_eq], by rw [fi_ne (by decide), fi_eq, fi_ne (by decide), fi_eq], by rw [fi_eq, fi_eq], g4⟩
        generalize ((s1.sI 13 x (s2.fi 41 mo + 1)).sI 14 x (s2.fi 42 mo ||| nI k)).sI 15 x (s2.fi 43 mo &&& nI k) = sc at xc fc Fc
        generalize ((s2.sI 41 mo (s2.fi 41 mo + 1)).sI 42 mo (s2.fi 42 mo ||| nI k)).sI 43 mo (s2.fi 43 mo &&& nI k) = tc at yc Fc
        obtain ⟨a, b, ea, eb, hab⟩ := W2_loop (fun n (b : St) j => sX1_fitting_L119 x (nI k) n b (nI j)) (fun n (b : St) j => sX2_seekSets_L118 mo (nI k) n b (nI j)) (R 7) (fun _ a b => IQ x mo w sx s0 a b ∧ FS x mo a b) (Q := fun a b => IQ x mo w sx s0 a b ∧ FS x mo a b) (by omega) (fun n m j b c hj hi hs => by
          obtain ⟨⟨i1, i2, i3⟩, ⟨j1, j2, j3, j4⟩⟩ := hi
          have bq := hC.qc.xq i1
          have bm := hC.mc.mq i2
          rw [sX1_fitting_L119, sX2_seekSets_L118, bq.xd.r1001, bq.xt.g52, M_n7 bm]
          by_cases hjj : j = R 7
          · rw [if_pos (nI_le (by omega) (by omega)), if_pos (nI_le (by omega) (by omega))]
            exact W2_ret ⟨⟨i1, i2, i3⟩, j1, j2, j3, j4⟩
          · have hj' : j < R 7 := by omega
            have lb : ((nI k >>> (nI j &&& 31)) &&& 1) = nI (b1 (k.testBit j)) := nI_testBit (by omega) (by omega)
            rw [if_neg (nI_ge (by omega) (by omega)), if_neg (nI_ge (by omega) (by omega)), bq.xd.1.r1006, bq.xd.1.l4 (by omega), X_has (by omega) (by omega), bp_s, M_r1019 bm.1, M_l11 bm.1 (by omega), lb, j4 j (by omega), M_t11 bm.1 (by omega), nI_1]
            have eif : (if nI (b1 (k.testBit j)) = 0 then some (0 : Int32) else some 1) = some (nI (b1 (k.testBit j))) := by cases k.testBit j <;> rfl
            rw [eif, bp_s, bq.xd.1.t4 (by omega)]
            refine hs hj' _ _ ⟨⟨i1.ao, i2.aI (by omega) (by omega), i3⟩, j1, j2, j3, fun i hi => ?_⟩
            rw [ai_aI, up1_eq, ai_aI, up1_eq, upA_ap, upA_ap]
            split
            · rfl
            · exact j4 i hi) 0 (Nat.zero_le _) sc tc ⟨⟨xc, yc, fc⟩, Fc⟩
        have ea' : sX1_fitting_L119 x (nI k) FU sc 0 = some a := ea
        have eb' : sX2_seekSets_L118 mo (nI k) FU tc 0 = some b := eb
        rw [ea', eb', bp_s, bp_s, b2_s, b2_s]
        exact hs hk' (a, r) (b, r') ⟨hab.1, hab.2, hrr⟩
      · rw [if_neg hz, if_neg hz, b2_s, b2_s]
        exact hs hk' (s1, v) (s2, v') ⟨⟨hx1, hy1, f1⟩, ⟨g13, g14, g15, g4⟩, i5⟩
  · obtain ⟨⟨i1', i2, i3⟩, ⟨j1, j2, j3, j4⟩, i5⟩ := hP
    dsimp only at i1' i2 i3 j1 j2 j3 j4 i5
    have bq := hC.qc.xq i1'
    have bm := hC.mc.mq i2
    rw [g13_5 bq.xd.1.1, M_g41 bm.1, j1]
    by_cases h0 : b.fi 41 mo = 0
    · rw [if_pos h0, if_pos h0, p15_5 bq.xd.1.1 bq.xd.1.2.1, M_p43 bm.1]
      exact W2_ret ⟨⟨i1'.sx (by decide) (by decide), i2.sI rfl, i3.sI (by decide) (by decide) (by decide)⟩, ⟨by rw [fi_ne (by decide), fi_ne (by decide)]; exact j1, by rw [fi_ne (by decide), fi_ne (by decide)]; exact j2, by rw [fi_eq, fi_eq], j4⟩, i5⟩
    · rw [if_neg h0, if_neg h0]
      exact W2_ret ⟨⟨i1', i2, i3⟩, ⟨j1, j2, j3, j4⟩, i5⟩
end
