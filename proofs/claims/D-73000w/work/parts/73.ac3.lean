/-! ACTS: hire, dismiss, undo, image, back -/
set_option maxRecDepth 100000
section
variable {x mo : Nat} {σ sx s0 sm : St} {w : Nat → Nat → Nat} {R S T : Nat → Nat}
theorem TB.up0 {p k : Nat} (h : TB T) (hk : k ≤ 6) (hp : p ≠ 6) : TB (upA T p k) := by
  refine ⟨fun m hm => ?_, ?_⟩
  · rw [upA_ap]
    split
    · omega
    · exact h.1 m hm
  · rw [upA_ap, if_neg (Ne.symm hp)]
    exact h.2
theorem TB.up7 {v : Nat} (h : TB T) : TB (upA T 7 v) := ⟨fun m hm => by rw [upA_ap, if_neg (by omega)]; exact h.1 m hm, by rw [upA_ap, if_neg (by omega)]; exact h.2⟩
theorem SC.spt {s v : Nat} (hc : SC σ s T) : SC (σ.sI 78 s (nI v)) s (upA T 7 v) := by
  refine ⟨fun m hm => ?_, ?_, ?_⟩
  · rw [upA_ap, if_neg (by omega)]
    exact hc.1 m hm
  · rw [upA_ap, if_neg (by omega)]
    exact (fi_ne (by decide)).trans hc.2.1
  · rw [upA_ap, if_pos rfl]
    exact fi_eq
theorem SC.free {s p : Nat} (hc : SC σ s T) (hp : p < 6) : SC (σ.aI (s + 1) (upA (σ.ai (s + 1)) p (-2))) s (upA T p 0) := by
  refine ⟨fun m hm => ?_, ?_, ?_⟩
  · rw [ai_aI, up1_eq, upA_ap, upA_ap]
    by_cases h : m = p
    · rw [if_pos h, if_pos h]; rfl
    · rw [if_neg h, if_neg h]
      exact hc.1 m hm
  · rw [upA_ap, if_neg (by omega)]
    exact hc.2.1
  · rw [upA_ap, if_neg (by omega)]
    exact hc.2.2
theorem oI_eq {n k : Nat} (hn : n < 2147483648) (hk : k < 2147483647) : (oI n = nI k) = (nI n = nI k + 1) := by
  rw [nI_1, nI_eq' (by omega) (by omega), ← oI_s, oI_inj hn (by omega)]
theorem OP_hire (h : RL x mo sx sm) (hr1 : 18000 ≤ sx.rc) (hr2 : 85000 ≤ sx.rs) (p v : Int32) : W2 (sX1_hire sx x p v) (sX2_hire sm mo p v) (Op x mo sx sm) := by
  unfold sX1_hire sX2_hire
  refine op_is h 1 (by decide) (h.isM p) ?_
  intro w R S m hC hm e
  subst e
  have hq := hC.qc
  have hw := hq.wf
  have h6 := hw.2.2.1
  have h3 := hw.2.2.2.2.1
  have hx := h.1.1
  have hg := h.1.2.2.2.2.2.2.2
  obtain ⟨c, f1, f2, f3⟩ := h.isP v
  dsimp only at f2
  rw [hq.xd.k5, f1, bp_s, M_kd hC.ms, f2, bp_s]
  cases c
  · rw [if_pos (by decide), if_pos (by decide)]
    exact fin_ref h 1 (by decide)
  · rw [if_neg b1t, if_neg b1t]
    obtain ⟨w', R', S', k, hC', hk, rfl⟩ := f3 rfl
    have hR1 : R' 1 = R 1 := by
      have a := hC.mc.2.1 1 (by decide)
      have b := hC'.mc.2.1 1 (by decide)
      rw [a] at b
      have := hC.qc.wf.r1
      have := hC'.qc.wf.r1
      exact ((nI_eq' (by omega) (by omega)).mp b).symm
    have h9 := (hw.2.2.2.2.2.2.2.2.2.1 m hm).2.2.2
    have hS := hq.tb.1 m (by omega)
    rw [hq.xd.r1001, hq.xt.i10, hq.xt.pg hw hm, bp_s, hq.xt.p69 hw hm, M_kd hC.ms, M_canHire hC.mc hw hm, bp_s]
    by_cases h0 : R (29 + 4 * m) = 0
    · rw [iteP (oI_l (by omega)), if_pos h0, if_pos h0, if_pos rfl]
      exact fin_ref h 5 (by decide)
    · rw [iteP (oI_l (by omega)), if_neg h0, if_neg h0, if_neg (by decide), hq.xd.r1002, hq.xd.s1.r1036, hq.xd.s1.l hq.sc (by omega), M_r1013 hC.ms, M_l5 hC.ms (by omega), hC.mc.2.2.1 m (by omega), iteP (oI_eq (by omega) (by omega))]
      by_cases hb : nI (S m) = nI k + 1
      · rw [if_pos hb, if_pos hb]
        exact fin_ref h 5 (by decide)
      · obtain ⟨s1, s2, ns, e1, e2, f1, g1', xo1, fi1, r1, r2, r3, hns, hS1, hC1, m1, a5, p1, p2, rc1, rs1⟩ := act_rem hC hr1 hr2
        have hm2 := m1.ms hC.ms
        have hnx : ns ≠ x := by have := hg.1 x (by rw [hx.1]; decide); omega
        have hntr : ns ≠ w 0 2 := by have := hg.1 (w 0 2) (by rw [hq.xd.s2.1]; decide); omega
        have hpr : oI (R (29 + 4 * m)) = nI (R (29 + 4 * m) - 1) := oI_p (by omega)
        have hcs := SC.sent hS1 hC1 (p := m) (k := k) (by omega) (by omega)
        generalize hs38 : s1.aI (ns + 1) (upA (s1.ai (ns + 1)) m (nI k)) = s38 at hcs
        have hS38 : SH s38 ns (w 0 0) := by rw [← hs38]; exact hS1
        have xo38 : XO s38 x := by rw [← hs38]; exact xo1
        have r38 : s38.fr 1002 x = some ns := by rw [← hs38]; exact r2
        have xo41 : XO (s38.sI 78 ns (nI (S 7 + (R (29 + 4 * m) - 1)))) x := xo38
        have e7 : (upA S m (k + 1)) 7 = S 7 := by rw [upA_ap, if_neg (by omega)]
        have m3 : Ma mo (gd sm mo) (s2.aI (mo + 5) (upA (s2.ai (mo + 5)) m (nI (k + 1)))) := m1.aI (by omega)
        have hm3 := m3.ms hC.ms
        have a7 : (s2.aI (mo + 5) (upA (s2.ai (mo + 5)) m (nI (k + 1)))).ai (mo + 5) 7 = nI (S 7) := by
          rw [ai_aI, up1_eq, upA_ap, if_neg (by omega)]
          exact a5 7 (by decide)
        have a3 : ∀ g : Nat → Int32, ((s2.aI (mo + 5) g).ai (mo + 3)) (29 + 4 * m) = nI (R (29 + 4 * m)) := fun g => by
          rw [ai_aI, up1_ne (by omega), m1.2.2.2.2.1 (mo + 3) (by omega) (by omega) (by omega)]
          exact hC.mc.2.1 _ (by omega)
        have l29 : (26 : Int32) + 4 * nI m + 3 = nI (29 + 4 * m) := by rw [show (26 : Int32) = nI 26 from rfl, show (4 : Int32) = nI 4 from rfl, show (3 : Int32) = nI 3 from rfl, pk_mul, nI_add, nI_add]; congr 1; omega
        rw [if_neg hb, if_neg hb, kd_ob hx.1, e1, bp_s, g1002_5 xo1.1, r2, hS1.r1036, hS1.t1 (by omega), by8 k (by omega), hs38, g1002_5 xo38.1, r38, hS38.g78 hcs, e7, hpr, nI_add, hS38.p78, kd_ob xo41.1, X_well xo41.1 xo41.2.1, bd_s, M_kd hC.ms, e2, bp_s, M_r1013 hm2, nI_1, M_t5 hm2 (by omega), M_r1013 hm3, show (7 : Int32) = nI 7 from rfl, M_l5 hm3 (by decide), a7, M_r1011 hm3, l29, M_l3 hm3 (by omega), a3, show (1 : Int32) = nI 1 from rfl, pk_sub (by omega), nI_add, M_t5 hm3 (by decide), aI_aI, M_r1011 (show MS (s2.aI (mo + 5) _) mo from hm2), M_l3 (show MS (s2.aI (mo + 5) _) mo from hm2) (by omega), a3, pk_sub (by omega)]
        have f2 : FE (EA sx x) sx (s38.sI 78 ns (nI (S 7 + (R (29 + 4 * m) - 1)))) := by
          rw [← hs38]
          exact (f1.aI (Or.inr (by omega))).sIn hns
        refine W2_ret (act_end (T := upA (upA S m (k + 1)) 7 (S 7 + (R (29 + 4 * m) - 1))) hC f2 (by rw [← hs38]; exact g1') xo41 (fun F h2 h3 => by rw [fi_sI, up2_ap, if_neg (by omega), ← hs38]; exact fi1 F) (by rw [← hs38]; exact r1) (by rw [← hs38]; exact r2) (by rw [← hs38]; exact r3) hntr (by rw [← hs38]; exact hS1) hcs.spt ((hq.tb.up (by omega) (by omega)).up7) (m1.aI (by omega)) ?_ ((p1.step (t1 := s38.sI 78 ns _) (t2 := s2.aI (mo + 5) _) (fun n f hl => by rw [← hs38]; exact LQ.sIx (σ := s1.aI (ns + 1) _) hl (by decide)) rfl (by rw [ai_aI, up1_ne (by omega)])).hi hx hg f2) ((p2.step (t1 := s38.sI 78 ns _) (t2 := s2.aI (mo + 5) _) (fun n f hl => by rw [← hs38]; exact LQ.sIx (σ := s1.aI (ns + 1) _) hl (by decide)) rfl (by rw [ai_aI, up1_ne (by omega)])).hi hx hg f2) rfl (by rw [← hs38]; show sx.rc ≤ s1.rc + 18000; omega) (by rw [← hs38]; show sx.rs ≤ s1.rs + 85000; omega))
        intro i hi
        rw [ai_aI, up1_eq, ai_aI, up1_eq, upA_ap, upA_ap, upA_ap, upA_ap]
        split
        · rfl
        · split
          · rfl
          · exact a5 i hi
theorem OP_dismiss (h : RL x mo sx sm) (hr1 : 18000 ≤ sx.rc) (hr2 : 85000 ≤ sx.rs) (p : Int32) : W2 (sX1_dismiss sx x p) (sX2_dismiss sm mo p) (Op x mo sx sm) := by
  unfold sX1_dismiss sX2_dismiss
  obtain ⟨b, g1, g2, g3⟩ := h.isM p
  dsimp only at g2
  have hm := gd_ms h.1.2.1
  have hx := h.1.1
  have hg := h.1.2.2.2.2.2.2.2
  rw [kd_ob hx.1, g1, bp_s, M_kd h.1.2.1, M_good h.1.2.1, bp_s, M_kd hm, g2, bp_s]
  cases b
  · rw [if_pos (by decide), if_pos (by decide), kd_ob hx.1, X_den hx.1 hx.2.1, bd_s, okz0, M_kd hm, M_isNot hm, bd_s, okz0]
    exact W2_ret (op_den h 1 (by decide))
  · rw [if_neg b1t, if_neg b1t]
    obtain ⟨w, R, S, m, hC, hm3, rfl⟩ := g3 rfl
    have hq := hC.qc
    have h3 := hq.wf.2.2.2.2.1
    have hS := hq.tb.1 m (by omega)
    have z1 : (nI (S m) = 0) = (S m = 0) := by rw [nI0, nI_eq' (by omega) (by omega)]
    rw [hq.xd.r1002, hq.xd.s1.r1036, hq.xd.s1.l hq.sc (by omega), M_r1013 hm, M_l5 hm (by omega), hC.mc.2.2.1 m (by omega), iteP (oI_l (by omega)), iteP z1]
    by_cases h0 : S m = 0
    · rw [if_pos h0, if_pos h0, kd_ob hx.1, X_den hx.1 hx.2.1, bd_s, okz0, M_kd hm, M_isNot hm, bd_s, okz0]
      exact W2_ret (op_den h 5 (by decide))
    · obtain ⟨s1, s2, ns, e1, e2, f1, g1', xo1, fi1, r1, r2, r3, hns, hS1, hC1, m1, a5, p1, p2, rc1, rs1⟩ := act_rem hC hr1 hr2
      have hm2 := m1.ms hm
      have hnx : ns ≠ x := by have := hg.1 x (by rw [hx.1]; decide); omega
      have hntr : ns ≠ w 0 2 := by have := hg.1 (w 0 2) (by rw [hq.xd.s2.1]; decide); omega
      have xo2 : XO (s1.aI (ns + 1) (upA (s1.ai (ns + 1)) m (-2))) x := xo1
      have e8 : (-2 : Int32).toInt8.toInt32 = -2 := by decide
      rw [if_neg h0, if_neg h0, kd_ob hx.1, e1, bp_s, g1002_5 xo1.1, r2, hS1.r1036, hS1.t1 (by omega), e8, kd_ob xo2.1, X_grant xo2.1 xo2.2.1, bd_s, okz1, M_kd hm, e2, bp_s, M_r1013 hm2, M_t5 hm2 (by omega)]
      have f2 : FE (EA sx x) sx (s1.aI (ns + 1) (upA (s1.ai (ns + 1)) m (-2))) := f1.aI (Or.inr (by omega))
      refine W2_ret (act_end (T := upA S m 0) hC f2 g1' xo2 (fun F h2 h3 => fi1 F) r1 r2 r3 hntr hS1 (hC1.free (by omega)) (hq.tb.up0 (by decide) (by omega)) (m1.aI (by omega)) ?_ ((p1.step (t1 := s1.aI (ns + 1) _) (t2 := s2.aI (mo + 5) _) (fun n f hl => hl) rfl (by rw [ai_aI, up1_ne (by omega)])).hi hx hg f2) ((p2.step (t1 := s1.aI (ns + 1) _) (t2 := s2.aI (mo + 5) _) (fun n f hl => hl) rfl (by rw [ai_aI, up1_ne (by omega)])).hi hx hg f2) rfl (by show sx.rc ≤ s1.rc + 18000; omega) (by show sx.rs ≤ s1.rs + 85000; omega))
      intro i hi
      rw [ai_aI, up1_eq, upA_ap, upA_ap]
      split
      · rfl
      · exact a5 i hi
theorem iv6 {l : Nat} {α : Type} (h : σ.ob l = 6) (k : Nat → Option α) : iv σ 6 (some l) k = k l := iv_ob h k
theorem L_isEmpty {l n : Nat} {f : Nat → Nat} (h : LQ σ l n f) (hn : n < 2147483648) : sJ2_isEmpty σ l = some (if n = 0 then 1 else 0) := by
  have z : (nI n = 0) = (n = 0) := by rw [nI0, nI_eq' (by omega) (by omega)]
  unfold sJ2_isEmpty
  rw [g18_6 h.1, h.2.1, iteP z]
  split <;> rfl
theorem OP_undo (h : RL x mo sx sm) : W2 (sX1_undo sx x) (sX2_undo sm mo) (Op x mo sx sm) := by
  unfold sX1_undo sX2_undo
  have hm := gd_ms h.1.2.1
  have hx := h.1.1
  have hg := h.1.2.2.2.2.2.2.2
  have o2 := hx.2.2.2.1.2.1
  rw [g1004_5 hx.1, hx.2.2.1.2.1, iv6 o2, M_kd h.1.2.1, M_good h.1.2.1, bp_s, M_g32 hm]
  rcases h.2.2 with h0 | ⟨w, R, S, hT⟩
  · obtain ⟨f, hl⟩ := h0.2.2.1
    rw [L_isEmpty hl (by decide), bp_s, if_pos rfl, if_neg (by decide), h0.gd'.2.2.2.2.1, if_pos (by decide), kd_ob hx.1, X_den hx.1 hx.2.1, bd_s, okz0, M_kd hm, M_isNot hm, bd_s, okz0]
    exact W2_ret (op_den h 6 (by decide))
  · have hC := h.ct hT
    have hq := hC.qc
    obtain ⟨n, f, P, k1, k2, k3, k4⟩ := hC.rt.2.2.1
    have z : (nI n = 0) = (n = 0) := by rw [nI0, nI_eq' (by omega) (by omega)]
    rw [L_isEmpty k2 (by omega), bp_s, k3, iteP z]
    by_cases hn : n = 0
    · rw [if_pos hn, if_pos hn, if_neg (by decide), kd_ob hx.1, X_den hx.1 hx.2.1, bd_s, okz0, M_kd hm, M_isNot hm, bd_s, okz0]
      exact W2_ret (op_den h 6 (by decide))
    · obtain ⟨j1, j2, j3, j4, j5⟩ := k4 (n - 1) (by omega)
      obtain ⟨τ, e, x1, x2, x3, x4, x5, x6, x7⟩ := L_remove k2 hg (fun i hi => by rw [(k4 i hi).1.1]; decide) (i := n - 1) (by omega) (by omega)
      have el_ob : ∀ a, EL sx (x + 2) a → sx.ob a = 6 ∧ a = x + 2 ∨ sx.ob a = 4 := by
        rintro a (q | ⟨q, -⟩)
        · exact Or.inl ⟨by rw [q]; exact o2, q⟩
        · obtain ⟨-, d, e, e4, -⟩ := hg.2 _ o2
          rw [q] at e; cases e; exact Or.inr e4
      have agx : ∀ a, sx.ob a ≠ 0 → sx.ob a ≠ 6 → sx.ob a ≠ 4 → Ag sx τ a := fun a h0 h6 h4 => x1.2.2.2.2.2 a (hg.1 a h0) (fun q => by rcases el_ob a q with ⟨r, -⟩ | r <;> omega)
      have ax := agx x (by rw [hx.1]; decide) (by rw [hx.1]; decide) (by rw [hx.1]; decide)
      have obx : τ.ob x = 5 := by rw [x5]; exact hx.1
      have lox : τ.lo ≤ x := by rw [x1.1]; exact hx.2.1
      have hn1 : nI n - 1 = nI (n - 1) := pk_sub (b := 1) (by omega)
      have f2 : FE (EA sx x) sx (τ.sR 1002 x (some (f (n - 1)))) := (x1.mono (fun a _ q => Or.inr (Or.inl q))).sR (Or.inl rfl)
      have xo2 : XO (τ.sR 1002 x (some (f (n - 1)))) x := by
        obtain ⟨q1, q2, q3, q4, q5⟩ := hx
        have fx : ∀ F, F ≠ 1002 → (τ.sR 1002 x (some (f (n - 1)))).fr F x = sx.fr F x := fun F hF => by
          rw [fr_sR, up2_ap, if_neg (fun q => hF q.1), x7]
        exact ⟨obx, lox, ⟨(fx 1000 (by decide)).trans q3.1, (fx 1004 (by decide)).trans q3.2.1, (fx 1005 (by decide)).trans q3.2.2.1, (fx 1006 (by decide)).trans q3.2.2.2.1, (fx 1007 (by decide)).trans q3.2.2.2.2⟩, by show τ.ob _ = _ ∧ τ.ob _ = _ ∧ τ.ob _ = _ ∧ τ.ob _ = _ ∧ τ.ob _ = _; rw [x5]; exact q4, by show τ.ln _ = _ ∧ τ.ln _ = _ ∧ τ.ln _ = _; rw [x6]; exact q5⟩
      -- the model
      have m1 : Ma mo (gd sm mo) ((gd sm mo).sI 32 mo (nI (n - 1))) := (Ma.rf ..).sI (Or.inl rfl)
      have hm1 := m1.ms hm
      have l8 : (8 : Int32) * nI (n - 1) = nI (8 * (n - 1)) := by rw [show (8 : Int32) = nI 8 from rfl, pk_mul]
      have hc := M_copy (σ := (gd sm mo).sI 32 mo (nI (n - 1))) (a := mo + 6) (b := mo + 5) (sp := 8 * (n - 1)) (dp := 0) (n := 8) (by omega) (hm1.ob' (by decide) (by decide)) (hm1.ob' (by decide) (by decide)) hm1.l6 hm1.l5 (by have := hm1.2.1; omega) (by omega) (by decide) (by decide) (by decide)
      have hc' : sX2_copy ((gd sm mo).sI 32 mo (nI (n - 1))) (some (mo + 6)) (nI (8 * (n - 1))) (some (mo + 5)) 0 8 = _ := hc
      have e32 : ((gd sm mo).sI 32 mo (nI (n - 1))).fi 32 mo = nI (n - 1) := fi_eq
      rw [if_neg hn, if_neg hn, if_pos rfl, g1004_5 hx.1, hx.2.2.1.2.1, g1004_5 hx.1, hx.2.2.1.2.1, iv6 o2, k2.size, bp_s, iv6 o2, hn1, e, bd_s, ck_ob (show τ.ob (f (n - 1)) = 21 by rw [x5]; exact j1.1) (by decide), p1002_5 obx lox, kd_ob xo2.1, X_grant xo2.1 xo2.2.1, bd_s, okz1, M_g32 hm, k3, hn1, M_p32 hm, M_r1014 hm1, M_g32 hm1, e32, M_r1013 hm1, l8, hc', bp_s]
      have hns := EA.sh hx hg j1
      have m2 : Ma mo (gd sm mo) (((gd sm mo).sI 32 mo (nI (n - 1))).aI (mo + 5) (cpF (((gd sm mo).sI 32 mo (nI (n - 1))).ai (mo + 6)) (((gd sm mo).sI 32 mo (nI (n - 1))).ai (mo + 5)) (8 * (n - 1)) 0 8)) := m1.aI (by omega)
      have hrow : AR (((gd sm mo).sI 32 mo (nI (n - 1))).aI (mo + 5) (cpF (((gd sm mo).sI 32 mo (nI (n - 1))).ai (mo + 6)) (((gd sm mo).sI 32 mo (nI (n - 1))).ai (mo + 5)) (8 * (n - 1)) 0 8)) mo 5 8 (P (n - 1)) := fun i hi => by
        rw [ai_aI, up1_eq]
        unfold cpF
        rw [if_pos (by omega), show i - 0 = i by omega]
        exact j5 i hi
      have hX2 : HX sx (τ.sR 1002 x (some (f (n - 1)))) (((gd sm mo).sI 32 mo (nI (n - 1))).aI (mo + 5) (cpF (((gd sm mo).sI 32 mo (nI (n - 1))).ai (mo + 6)) (((gd sm mo).sI 32 mo (nI (n - 1))).ai (mo + 5)) (8 * (n - 1)) 0 8)) (x + 2) (w 0 0) (w 0 2) 6 32 mo 16 := by
        obtain ⟨q1, q2, d, q3, q4, q5, q6⟩ := x3
        refine ⟨n - 1, f, P, by omega, ⟨q1, q2, d, by rw [fr_sR, up2_ap, if_neg (by omega)]; exact q3, q4, q5, fun i hi => (q6 i hi).trans (congrArg some (if_pos hi))⟩, fi_eq, fun i hi => ?_⟩
        obtain ⟨a1, a2, a3, a4, a5⟩ := k4 i (by omega)
        exact ⟨a1, a2, a3, a4, fun j hj => by rw [ai_aI, up1_ne (by omega)]; exact a5 j hj⟩
      have hX3 : HX sx (τ.sR 1002 x (some (f (n - 1)))) (((gd sm mo).sI 32 mo (nI (n - 1))).aI (mo + 5) (cpF (((gd sm mo).sI 32 mo (nI (n - 1))).ai (mo + 6)) (((gd sm mo).sI 32 mo (nI (n - 1))).ai (mo + 5)) (8 * (n - 1)) 0 8)) (x + 3) (w 0 0) (w 0 2) 7 33 mo 3 := by
        obtain ⟨n3, fI, P3, k5, k6, k7, k8⟩ := hC.rt.2.2.2
        have o3 := hx.2.2.2.1.2.2.1
        have e3 : ¬ EL sx (x + 2) (x + 3) := fun q => by rcases el_ob _ q with ⟨-, r⟩ | r <;> omega
        obtain ⟨q1, q2, d, q3, q4⟩ : LQ τ (x + 3) n3 fI := k6.fe x1 hg e3 (fun d hd => EL.no hg o3 o2 (by omega) hd)
        refine ⟨n3, fI, P3, k5, ⟨q1, q2, d, by rw [fr_sR, up2_ap, if_neg (by omega)]; exact q3, q4⟩, (show ((gd sm mo).sI 32 mo (nI (n - 1))).fi 33 mo = nI n3 from (fi_ne (by decide)).trans k7), fun i hi => ?_⟩
        obtain ⟨a1, a2, a3, a4, a5⟩ := k8 i hi
        exact ⟨a1, a2, a3, a4, fun j hj => by rw [ai_aI, up1_ne (by omega)]; exact a5 j hj⟩
      exact W2_ret (act_end (T := P (n - 1)) hC f2 (x2.sR (by decide)) xo2 (fun F _ _ => ax.2.2.1 F) (by rw [fr_sR, up2_ap, if_neg (by omega), x7]; exact hq.xd.2.1) (if_pos ⟨rfl, rfl⟩) (by rw [fr_sR, up2_ap, if_neg (by omega), x7]; exact hq.xd.2.2.2.1) j2 (j1.fe f2 hg hns.1 hns.2) (j3.fe j1 f2 hg hns.1 hns.2) j4 m2 hrow (hX2.hi hx hg f2) (hX3.hi hx hg f2) rfl (by show sx.rc ≤ τ.rc + 18000; simp only [St.rc, x4]; omega) (by show sx.rs ≤ τ.rs + 85000; simp only [St.rs, x4]; omega))
end
