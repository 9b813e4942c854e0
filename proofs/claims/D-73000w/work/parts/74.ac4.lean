/-! ACTS: image, back -/
set_option maxRecDepth 100000
section
variable {x mo : Nat} {σ sx s0 sm : St} {w : Nat → Nat → Nat} {R S T : Nat → Nat}
theorem LQ.sRx {l n F a : Nat} {v : Option Nat} {f : Nat → Nat} (h : LQ σ l n f) (hF : F ≠ 1008) : LQ (σ.sR F a v) l n f := by
  obtain ⟨q1, q2, d, q3, q4⟩ := h
  exact ⟨q1, q2, d, by rw [fr_sR, up2_ap, if_neg (fun q => hF q.1.symm)]; exact q3, q4⟩
/-- the desk's own things, whatever is done to its lists -/
theorem XO.fe {τ : St} (h : XO sx x) (hg : GW sx) (hf : FE (EA sx x) sx τ) (h1 : τ.ob x = 5) (h2 : τ.fr 1000 x = some (x + 1) ∧ τ.fr 1004 x = some (x + 2) ∧ τ.fr 1005 x = some (x + 3) ∧ τ.fr 1006 x = some (x + 4) ∧ τ.fr 1007 x = some (x + 5)) (h3 : τ.ob (x + 2) = 6) (h4 : τ.ob (x + 3) = 6) : XO τ x := by
  obtain ⟨q1, q2, q3, ⟨p1, p2, p3, p4, p5⟩, ⟨l1, l4, l5⟩⟩ := id h
  have ag : ∀ a, sx.ob a ≠ 0 → sx.ob a ≠ 5 → sx.ob a ≠ 6 → sx.ob a ≠ 4 → Ag sx τ a := fun a h0 h5 h6 h4 => hf.2.2.2.2.2 a (hg.1 a h0) (EA.no h hg h5 h6 h4)
  have a1 := ag (x + 1) (by omega) (by omega) (by omega) (by omega)
  have a4 := ag (x + 4) (by omega) (by omega) (by omega) (by omega)
  have a5 := ag (x + 5) (by omega) (by omega) (by omega) (by omega)
  exact ⟨h1, by rw [hf.1]; exact q2, h2, ⟨by rw [a1.1]; exact p1, h3, h4, by rw [a4.1]; exact p4, by rw [a5.1]; exact p5⟩, by rw [a1.2.1]; exact l1, by rw [a4.2.1]; exact l4, by rw [a5.2.1]; exact l5⟩
theorem el_no {a l : Nat} (hg : GW sx) (hl : sx.ob l = 6) (h6 : sx.ob a ≠ 6) (h4 : sx.ob a ≠ 4) : ¬ EL sx l a := by
  rintro (q | ⟨q, -⟩)
  · rw [q] at h6; exact h6 hl
  · obtain ⟨-, d, e, e4, -⟩ := hg.2 _ hl
    rw [q] at e; cases e; exact h4 e4
theorem el_nol {l l' : Nat} (hg : GW sx) (h1 : sx.ob l = 6) (h2 : sx.ob l' = 6) (hne : l ≠ l') : ¬ EL sx l' l := by
  rintro (q | ⟨q, -⟩)
  · exact hne q
  · obtain ⟨-, d, e, e4, -⟩ := hg.2 _ h2
    rw [q] at e; cases e; rw [h1] at e4; exact absurd e4 (by decide)
theorem img_x (hB : RB x mo sx s0) (hq : QC sx x w R S) {n : Nat} {f : Nat → Nat} (hn : n ≤ 2) (k2 : LQ sx (x + 3) n f) (k4 : ∀ i, i < n → SH sx (f i) (w 0 0)) (hr1 : 18000 ≤ sx.rc) (hr2 : 85000 ≤ sx.rs) : ∃ τ τ2, sX14_copy sx (w 0 1) = some (τ, some sx.sz) ∧ τ.ob (x + 3) = 6 ∧ sJ2_add τ (x + 3) (some sx.sz) = some (τ2, 1) ∧ FE (EL sx (x + 3)) sx τ2 ∧ GW τ2 ∧ LQ τ2 (x + 3) (n + 1) (upA f n sx.sz) ∧ XO τ2 x ∧ SH τ2 sx.sz (w 0 0) ∧ SC τ2 sx.sz S ∧ sx.rc ≤ τ2.rc + 3 ∧ sx.rs ≤ τ2.rs + 32 := by
  have hx := hB.1
  have hg := hB.2.2.2.2.2.2.2
  have o5 : sx.ob x = 5 := hx.1
  have o2 := hx.2.2.2.1.2.1
  have o3 := hx.2.2.2.1.2.2.1
  have hlosz : sx.lo ≤ sx.sz := by have := hg.1 x (by rw [hx.1]; decide); have := hx.2.1; omega
  obtain ⟨τ, e1, f1, g1, hS1, hC1, rc1, rs1⟩ := X_copy hq.xd.s1 hq.sc hg (by omega) (by omega) hlosz
  have L1 : LQ τ (x + 3) n f := k2.fe f1 hg (fun q => q) (fun d _ q => q)
  have fo : ∀ a, sx.ob a ≠ 0 → Ag sx τ a := fun a h0 => f1.2.2.2.2.2 a (hg.1 a h0) (fun q => q)
  obtain ⟨τ2, e2, f2, g2, L2, rc2, rs2⟩ := L_add (e := sx.sz) L1 g1 (fun i hi => by rw [(fo (f i) (by rw [(k4 i hi).1]; decide)).1, (k4 i hi).1]; decide) (by rw [hS1.1]; decide) (by omega) (by omega) (by omega)
  have hEL : ∀ a, a < sx.sz → EL τ (x + 3) a → EL sx (x + 3) a := by
    rintro a ha (q | ⟨q, r⟩)
    · exact Or.inl q
    · have a3 := fo (x + 3) (by omega)
      rw [a3.2.2.2.1] at q
      obtain ⟨-, d, e, e4, -⟩ := hg.2 _ o3
      rw [q] at e; cases e
      exact Or.inr ⟨q, by rw [← (fo a (by omega)).2.1]; exact r⟩
  have f12 : FE (EL sx (x + 3)) sx τ2 := by
    obtain ⟨u1, u2, u3, u4, u5, u6⟩ := f1
    obtain ⟨v1, v2, v3, v4, v5, v6⟩ := f2
    exact ⟨v1.trans u1, v2.trans u2, by omega, by omega, by omega, fun a ha hn => (u6 a ha (fun q => q)).tr (v6 a (by omega) (fun q => hn (hEL a ha q)))⟩
  have fE : FE (EA sx x) sx τ2 := f12.mono (fun a _ q => Or.inr (Or.inr q))
  have ax := f12.2.2.2.2.2 x (hg.1 x (by omega)) (el_no hg o3 (by omega) (by omega))
  have a2' : τ2.ob (x + 2) = 6 := by
    have := f12.2.2.2.2.2 (x + 2) (hg.1 _ (by omega)) (el_nol hg o2 o3 (by omega))
    rw [this.1]; exact o2
  have xo2 : XO τ2 x := hx.fe hg fE (by rw [ax.1]; exact hx.1) ⟨(ax.2.2.2.1 _).trans hx.2.2.1.1, (ax.2.2.2.1 _).trans hx.2.2.1.2.1, (ax.2.2.2.1 _).trans hx.2.2.1.2.2.1, (ax.2.2.2.1 _).trans hx.2.2.1.2.2.2.1, (ax.2.2.2.1 _).trans hx.2.2.1.2.2.2.2⟩ a2' L2.1
  have o31 : τ.ob (x + 3) = 6 := L1.1
  exact ⟨τ, τ2, e1, o31, e2, f12, g2, L2, xo2, hS1.fe f2 g1 (el_no g1 o31 (by rw [hS1.1]; decide) (by rw [hS1.1]; decide)) (el_no g1 o31 (by rw [hS1.2.2.2.2.1]; decide) (by rw [hS1.2.2.2.2.1]; decide)), hC1.fe hS1 f2 g1 (el_no g1 o31 (by rw [hS1.1]; decide) (by rw [hS1.1]; decide)) (el_no g1 o31 (by rw [hS1.2.2.2.2.1]; decide) (by rw [hS1.2.2.2.2.1]; decide)), by omega, by omega⟩
theorem img_m {n : Nat} {P : Nat → Nat → Nat} (hm : MS σ mo) (hS : AR σ mo 5 8 S) (hn : n ≤ 2) (k3 : σ.fi 33 mo = nI n) (k4 : ∀ i, i < n → ∀ j, j < 8 → σ.ai (mo + 7) (8 * i + j) = nI (P i j)) : ∃ t, (gR σ 1013 (some mo) fun v14 => gR σ 1015 (some mo) fun v15 => gI σ 33 (some mo) fun v16 => bp (sX2_copy σ v14 0 v15 (8 * v16) 8) fun s17 => gI s17 33 (some mo) fun v19 => pI s17 33 (some mo) (v19 + 1) fun s20 => gI s20 33 (some mo) fun v21 => some (s20, (v21 - 1))) = some (t, nI n) ∧ Ma mo σ t ∧ t.fi 33 mo = nI (n + 1) ∧ t.fi 32 mo = σ.fi 32 mo ∧ t.ai (mo + 5) = σ.ai (mo + 5) ∧ t.ai (mo + 6) = σ.ai (mo + 6) ∧ ∀ i, i < n + 1 → ∀ j, j < 8 → t.ai (mo + 7) (8 * i + j) = nI (upA P n S i j) := by
  have l8 : (8 : Int32) * nI n = nI (8 * n) := by rw [show (8 : Int32) = nI 8 from rfl, pk_mul]
  have hc := M_copy (σ := σ) (a := mo + 5) (b := mo + 7) (sp := 0) (dp := 8 * n) (n := 8) (by omega) (hm.ob' (by decide) (by decide)) (hm.ob' (by decide) (by decide)) hm.l5 hm.l7 (by have := hm.2.1; omega) (by decide) (by omega) (by decide) (by decide)
  have hc' : sX2_copy σ (some (mo + 5)) 0 (some (mo + 7)) (nI (8 * n)) 8 = _ := hc
  generalize hs6 : σ.aI (mo + 7) (cpF (σ.ai (mo + 5)) (σ.ai (mo + 7)) 0 (8 * n) 8) = s6 at hc'
  have m6 : Ma mo σ s6 := by rw [← hs6]; exact (Ma.rf ..).aI (by omega)
  have h6 := m6.ms hm
  have e33 : s6.fi 33 mo = nI n := by rw [← hs6]; exact k3
  have e33' : (s6.sI 33 mo (nI (n + 1))).fi 33 mo = nI (n + 1) := fi_eq
  have hn1 : nI (n + 1) - 1 = nI n := nI_pred n
  refine ⟨s6.sI 33 mo (nI (n + 1)), ?_, m6.sI (Or.inr rfl), e33', (fi_ne (by decide)).trans (by rw [← hs6]; rfl), by rw [ai_sI, ← hs6]; exact up1_ne (by omega), by rw [ai_sI, ← hs6]; exact up1_ne (by omega), fun i hi j hj => ?_⟩
  · rw [M_r1013 hm, M_r1015 hm, M_g33 hm, k3, l8, hc', bp_s, M_g33 h6, e33, nI_1, M_p33 h6, M_g33 (show MS (s6.sI 33 mo _) mo from h6), e33', hn1]
  · rw [ai_sI, ← hs6, ai_aI, up1_eq, upA_ap]
    unfold cpF
    by_cases hin : i = n
    · subst hin
      rw [if_pos (by omega), if_pos rfl, show 0 + (8 * i + j - 8 * i) = j by omega]
      exact hS j hj
    · rw [if_neg (by omega), if_neg hin]
      exact k4 i (by omega) j hj
theorem OP_image (h : RL x mo sx sm) (hr1 : 18000 ≤ sx.rc) (hr2 : 85000 ≤ sx.rs) : W2 (sX1_image sx x) (sX2_image sm mo) (Op x mo sx sm) := by
  unfold sX1_image sX2_image
  refine op_town h ?_
  intro w R S hC
  have hq := hC.qc
  have hx := h.1.1
  have hg := h.1.2.2.2.2.2.2.2
  have hm := hC.ms
  have o2 := hx.2.2.2.1.2.1
  have o3 := hx.2.2.2.1.2.2.1
  obtain ⟨n, f, P, k1, k2, k3, k4⟩ := hC.rt.2.2.2
  obtain ⟨n2, f2', P2, j1, j2, j3, j4⟩ := hC.rt.2.2.1
  have e3 : (nI n = 3) = (n = 3) := nI_eq' (b := 3) (by omega) (by decide)
  rw [g1005_5 hx.1, hx.2.2.1.2.2.1, iv6 o3, k2.size, bp_s, M_g33 hm, k3, iteP e3, iteP e3]
  by_cases hn : n = 3
  · rw [if_pos hn, if_pos hn]
    exact fin_ref h 3 (by decide)
  · obtain ⟨τ, τ2, e1, o31, e2, f12, g2, L2, xo2, hnsS, hnsC, rc2, rs2⟩ := img_x hC.rb hq (by omega) k2 (fun i hi => (k4 i hi).1) hr1 hr2
    obtain ⟨t, e4, m7, t33, t32, t5, t6, t7⟩ := img_m (P := P) hm hC.mc.2.2.1 (by omega) k3 (fun i hi => (k4 i hi).2.2.2.2)
    have fE : FE (EA sx x) sx τ2 := f12.mono (fun a _ q => Or.inr (Or.inr q))
    have o5 : sx.ob x = 5 := hx.1
    have ax := f12.2.2.2.2.2 x (hg.1 x (by omega)) (el_no hg o3 (by omega) (by omega))
    have hn1 : nI (n + 1) - 1 = nI n := nI_pred n
    have hcr : ∀ s U, SH sx s (w 0 0) → SC sx s U → SH τ2 s (w 0 0) ∧ SC τ2 s U := fun s U hs hc => ⟨hs.fe fE hg (EA.sh hx hg hs).1 (EA.sh hx hg hs).2, hc.fe hs fE hg (EA.sh hx hg hs).1 (EA.sh hx hg hs).2⟩
    have hp : HI τ2 t (x + 2) (w 0 0) (w 0 2) 6 32 mo 16 := by
      refine ⟨n2, f2', P2, j1, j2.fe f12 hg (el_nol hg o2 o3 (by omega)) (fun d hd => EL.no hg o2 o3 (by omega) hd), t32.trans j3, fun i hi => ?_⟩
      have := j4 i hi
      have q := hcr _ _ this.1 this.2.2.1
      exact ⟨q.1, this.2.1, q.2, this.2.2.2.1, fun j hj => by rw [t6]; exact this.2.2.2.2 j hj⟩
    have hi : HI τ2 t (x + 3) (w 0 0) (w 0 2) 7 33 mo 3 := by
      refine ⟨n + 1, upA f n sx.sz, upA P n S, by omega, L2, t33, fun i hi => ?_⟩
      refine ⟨?_, ?_, ?_, ?_, t7 i hi⟩
      all_goals
        rw [upA_ap]
        try rw [upA_ap]
        by_cases hin : i = n
      · rw [if_pos hin]; exact hnsS
      · rw [if_neg hin]; exact (hcr _ _ (k4 i (by omega)).1 (k4 i (by omega)).2.2.1).1
      · rw [if_pos hin]; have := hg.1 (w 0 2) (by rw [hq.xd.s2.1]; decide); omega
      · rw [if_neg hin]; exact (k4 i (by omega)).2.1
      · rw [if_pos hin, if_pos hin]; exact hnsC
      · rw [if_neg hin, if_neg hin]; exact (hcr _ _ (k4 i (by omega)).1 (k4 i (by omega)).2.2.1).2
      · rw [if_pos hin]; exact hq.tb
      · rw [if_neg hin]; exact (k4 i (by omega)).2.2.2.1
    have hs := hcr _ _ hq.xd.s1 hq.sc
    have hend : Op x mo sx sm (en τ2 x 0, nI n) (t, nI n) := act_end (T := S) hC fE g2 xo2 (fun F _ _ => ax.2.2.1 F) ((ax.2.2.2.1 _).trans hq.xd.2.1) ((ax.2.2.2.1 _).trans hq.xd.2.2.1) ((ax.2.2.2.1 _).trans hq.xd.2.2.2.1) hq.xd.2.2.2.2.2.2 hs.1 hs.2 hq.tb m7 (fun i hi => by rw [t5]; exact hC.mc.2.2.1 i hi) hp hi rfl (by omega) (by omega)
    rw [if_neg hn, if_neg hn, g1005_5 hx.1, hx.2.2.1.2.2.1, hq.xd.r1002, hq.xd.s1.i21, e1, bd_s, iv6 o31, e2, bd_s, g1005_5 xo2.1, xo2.2.2.1.2.2.1, iv6 L2.1, L2.size, bp_s, hn1, kd_ob xo2.1, X_well xo2.1 xo2.2.1, bd_s, e4]
    exact W2_ret hend
theorem OP_back (h : RL x mo sx sm) (hr1 : 18000 ≤ sx.rc) (hr2 : 85000 ≤ sx.rs) (p : Int32) : W2 (sX1_back sx x p) (sX2_back sm mo p) (Op x mo sx sm) := by
  unfold sX1_back sX2_back
  have hm := gd_ms h.1.2.1
  have hx := h.1.1
  have hg := h.1.2.2.2.2.2.2.2
  have o5 : sx.ob x = 5 := hx.1
  have o2 := hx.2.2.2.1.2.1
  have o3 := hx.2.2.2.1.2.2.1
  rw [g1005_5 hx.1, hx.2.2.1.2.2.1, iv6 o3, M_kd h.1.2.1, M_good h.1.2.1, bp_s, M_g33 hm, M_in, bp_s]
  rcases h.2.2 with h0 | ⟨w, R, S, hT⟩
  · obtain ⟨f, hl⟩ := h0.2.2.2.1
    have e0 : (decide (0 ≤ p) && decide (p ≤ nI 0 - 1)) = false := by
      rw [in_pred (by decide)]
      cases hb : isB p 0
      · rfl
      · obtain ⟨k, hk, -⟩ := isB_t (by decide) hb
        omega
    rw [hl.size, bp_s, X_in, bp_s, h0.gd'.2.2.2.2.2, e0, if_pos b1f, if_pos b1f, kd_ob hx.1, X_den hx.1 hx.2.1, bd_s, okz0, M_kd hm, M_isNot hm, bd_s, okz0]
    exact W2_ret (op_den h 1 (by decide))
  · have hC := h.ct hT
    have hq := hC.qc
    have hlosz : sx.lo ≤ sx.sz := by have := hg.1 x (by rw [hx.1]; decide); have := hx.2.1; omega
    obtain ⟨n, f, P, k1, k2, k3, k4⟩ := hC.rt.2.2.2
    obtain ⟨n2, fP, P2, j1, j2, j3, j4⟩ := hC.rt.2.2.1
    rw [k2.size, bp_s, X_in, bp_s, k3, in_pred (by omega)]
    cases hb : isB p n
    · rw [if_pos b1f, if_pos b1f, kd_ob hx.1, X_den hx.1 hx.2.1, bd_s, okz0, M_kd hm, M_isNot hm, bd_s, okz0]
      exact W2_ret (op_den h 1 (by decide))
    · obtain ⟨i0, hi0, rfl⟩ := isB_t (by omega) hb
      obtain ⟨a1, a2, a3, a4, a5⟩ := k4 i0 hi0
      obtain ⟨τ, e1, f1, g1, hS1, hC1, rc1, rs1⟩ := X_copy a1 a3 hg (by omega) (by omega) hlosz
      have fo : ∀ a, sx.ob a ≠ 0 → Ag sx τ a := fun a h0 => f1.2.2.2.2.2 a (hg.1 a h0) (fun q => q)
      have ax := fo x (by omega)
      have ox1 : τ.ob x = 5 := by rw [ax.1]; exact hx.1
      have lx1 : τ.lo ≤ x := by rw [f1.1]; exact hx.2.1
      have L1 : LQ (τ.sR 1002 x (some sx.sz)) (x + 2) n2 fP := LQ.sRx (j2.fe f1 hg (fun q => q) (fun d _ q => q)) (by decide)
      have gq : GW (τ.sR 1002 x (some sx.sz)) := g1.sR (by decide)
      obtain ⟨τ2, e2, f2, g2, L2, nn2, ob2, ln2, fr2⟩ := L_clear L1 gq (by omega)
      have hEL : ∀ a, a < sx.sz → EL (τ.sR 1002 x (some sx.sz)) (x + 2) a → EL sx (x + 2) a := by
        rintro a ha (q | ⟨q, r⟩)
        · exact Or.inl q
        · have b3 := fo (x + 2) (by omega)
          rw [fr_sR, up2_ap, if_neg (by omega), b3.2.2.2.1] at q
          obtain ⟨-, d, e, e4, -⟩ := hg.2 _ o2
          rw [q] at e; cases e
          exact Or.inr ⟨q, by rw [← (fo a (by omega)).2.1]; exact r⟩
      have fq : FE (EA sx x) sx (τ.sR 1002 x (some sx.sz)) := (f1.mono (fun a _ q => q.elim)).sR (Or.inl rfl)
      have fE : FE (EA sx x) sx τ2 := by
        obtain ⟨u1, u2, u3, u4, u5, u6⟩ := fq
        obtain ⟨v1, v2, v3, v4, v5, v6⟩ := f2
        exact ⟨v1.trans u1, v2.trans u2, by omega, by omega, by omega, fun a ha hn => (u6 a ha hn).tr (v6 a (by omega) (fun q => hn (Or.inr (Or.inl (hEL a ha q)))))⟩
      have oq2 : (τ.sR 1002 x (some sx.sz)).ob (x + 2) = 6 := L1.1
      have axq := f2.2.2.2.2.2 x (gq.1 x (show τ.ob x ≠ 0 by omega)) (el_no gq oq2 (show τ.ob x ≠ 6 by omega) (show τ.ob x ≠ 4 by omega))
      have fx : ∀ F, F ≠ 1002 → τ2.fr F x = sx.fr F x := fun F hF => by
        rw [axq.2.2.2.1, fr_sR, up2_ap, if_neg (fun q => hF q.1)]
        exact ax.2.2.2.1 F
      have a3' : τ2.ob (x + 3) = 6 := by
        rw [ob2]
        show τ.ob (x + 3) = 6
        rw [(fo (x + 3) (by omega)).1]; exact o3
      have xo2 : XO τ2 x := hx.fe hg fE (by rw [axq.1]; exact ox1) ⟨(fx 1000 (by decide)).trans hx.2.2.1.1, (fx 1004 (by decide)).trans hx.2.2.1.2.1, (fx 1005 (by decide)).trans hx.2.2.1.2.2.1, (fx 1006 (by decide)).trans hx.2.2.1.2.2.2.1, (fx 1007 (by decide)).trans hx.2.2.1.2.2.2.2⟩ L2.1 a3'
      have xoq : (τ.sR 1002 x (some sx.sz)).fr 1004 x = some (x + 2) := by rw [fr_sR, up2_ap, if_neg (by omega)]; exact (ax.2.2.2.1 _).trans hx.2.2.1.2.1
      have l8 : (8 : Int32) * nI i0 = nI (8 * i0) := by rw [show (8 : Int32) = nI 8 from rfl, pk_mul]
      have hc := M_copy (σ := gd sm mo) (a := mo + 7) (b := mo + 5) (sp := 8 * i0) (dp := 0) (n := 8) (by omega) (hm.ob' (by decide) (by decide)) (hm.ob' (by decide) (by decide)) hm.l7 hm.l5 (by have := hm.2.1; omega) (by omega) (by decide) (by decide) (by decide)
      have hc' : sX2_copy (gd sm mo) (some (mo + 7)) (nI (8 * i0)) (some (mo + 5)) 0 8 = _ := hc
      generalize hs6 : (gd sm mo).aI (mo + 5) (cpF ((gd sm mo).ai (mo + 7)) ((gd sm mo).ai (mo + 5)) (8 * i0) 0 8) = s6 at hc'
      have m6 : Ma mo (gd sm mo) s6 := by rw [← hs6]; exact (Ma.rf ..).aI (by omega)
      have h6 := m6.ms hm
      have hnsS : SH τ2 sx.sz (w 0 0) := SH.fe (σ := τ.sR 1002 x (some sx.sz)) ⟨hS1.1, hS1.2.1, by rw [fr_sR, up2_ap, if_neg (by omega)]; exact hS1.2.2.1, by rw [fr_sR, up2_ap, if_neg (by omega)]; exact hS1.2.2.2.1, hS1.2.2.2.2⟩ f2 gq (el_no gq oq2 (show τ.ob sx.sz ≠ 6 by rw [hS1.1]; decide) (show τ.ob sx.sz ≠ 4 by rw [hS1.1]; decide)) (el_no gq oq2 (show τ.ob (sx.sz + 1) ≠ 6 by rw [hS1.2.2.2.2.1]; decide) (show τ.ob (sx.sz + 1) ≠ 4 by rw [hS1.2.2.2.2.1]; decide))
      have hnsC : SC τ2 sx.sz (P i0) := SC.fe (σ := τ.sR 1002 x (some sx.sz)) (t := w 0 0) ⟨hS1.1, hS1.2.1, by rw [fr_sR, up2_ap, if_neg (by omega)]; exact hS1.2.2.1, by rw [fr_sR, up2_ap, if_neg (by omega)]; exact hS1.2.2.2.1, hS1.2.2.2.2⟩ hC1 f2 gq (el_no gq oq2 (show τ.ob sx.sz ≠ 6 by rw [hS1.1]; decide) (show τ.ob sx.sz ≠ 4 by rw [hS1.1]; decide)) (el_no gq oq2 (show τ.ob (sx.sz + 1) ≠ 6 by rw [hS1.2.2.2.2.1]; decide) (show τ.ob (sx.sz + 1) ≠ 4 by rw [hS1.2.2.2.2.1]; decide))
      rw [if_neg b1t, if_neg b1t, g1005_5 hx.1, hx.2.2.1.2.2.1, iv6 o3, k2.get (by omega) hi0, bp_s, ck_ob a1.1 (by decide), a1.i21, e1, bd_s, p1002_5 ox1 lx1, g1004_5 (show (τ.sR 1002 x _).ob x = 5 from ox1), xoq, iv6 oq2, e2, bp_s, kd_ob xo2.1, X_grant xo2.1 xo2.2.1, bd_s, okz1, M_r1015 hm, M_r1013 hm, l8, hc', bp_s, M_p32 h6]
      have m7 : Ma mo (gd sm mo) (s6.sI 32 mo 0) := m6.sI (Or.inl rfl)
      refine W2_ret (act_end (T := P i0) hC fE g2 xo2 (fun F _ _ => (axq.2.2.1 F).trans (ax.2.2.1 F)) ((fx 1001 (by decide)).trans hq.xd.2.1) ((axq.2.2.2.1 _).trans (if_pos ⟨rfl, rfl⟩)) ((fx 1003 (by decide)).trans hq.xd.2.2.2.1) (by have := hg.1 (w 0 2) (by rw [hq.xd.s2.1]; decide); omega) hnsS hnsC a4 m7 ?_ ?_ ?_ rfl ?_ ?_)
      · intro i hi
        rw [ai_sI, ← hs6, ai_aI, up1_eq]
        unfold cpF
        rw [if_pos (by omega), show i - 0 = i by omega]
        exact a5 i hi
      · exact ⟨0, fP, P2, by omega, L2, fi_eq, fun i hi => by omega⟩
      · have hl3 : LQ τ2 (x + 3) n f := by
          have q0 : LQ (τ.sR 1002 x (some sx.sz)) (x + 3) n f := LQ.sRx (k2.fe f1 hg (fun q => q) (fun d _ q => q)) (by decide)
          exact q0.fe f2 gq (el_nol gq q0.1 oq2 (by omega)) (fun d hd => EL.no gq q0.1 oq2 (by omega) hd)
        have : HX sx τ2 (s6.sI 32 mo 0) (x + 3) (w 0 0) (w 0 2) 7 33 mo 3 := ⟨n, f, P, k1, hl3, by rw [fi_ne (by decide), ← hs6]; exact k3, fun i hi => ⟨(k4 i hi).1, (k4 i hi).2.1, (k4 i hi).2.2.1, (k4 i hi).2.2.2.1, fun j hj => by rw [ai_sI, ← hs6, ai_aI, up1_ne (by omega)]; exact (k4 i hi).2.2.2.2 j hj⟩⟩
        exact this.hi hx hg fE
      · have : τ2.rc = τ.rc := by simp only [St.rc, nn2]; rfl
        omega
      · have : τ2.rs = τ.rs := by simp only [St.rs, nn2]; rfl
        omega
end
