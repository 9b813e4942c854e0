/-! ACTS: remembers and note, brick, open, hire, dismiss, spent -/
set_option maxRecDepth 100000
section
variable {x mo : Nat} {σ sx s0 sm : St} {w : Nat → Nat → Nat} {R S T : Nat → Nat}
theorem MS.ob' (h : MS σ mo) {j : Nat} (h1 : 1 ≤ j) (h2 : j ≤ 11) : σ.ob (mo + j) = 1 := by
  rcases (show j = 1 ∨ j = 2 ∨ j = 3 ∨ j = 4 ∨ j = 5 ∨ j = 6 ∨ j = 7 ∨ j = 8 ∨ j = 9 ∨ j = 10 ∨ j = 11 by omega) with rfl | rfl | rfl | rfl | rfl | rfl | rfl | rfl | rfl | rfl | rfl <;> simp [MS] at h <;> simp [h]
theorem MS.l5 (h : MS σ mo) : σ.ln (mo + 5) = 8 := by simp [MS] at h; simp [h]
theorem MS.l6 (h : MS σ mo) : σ.ln (mo + 6) = 128 := by simp [MS] at h; simp [h]
theorem MS.l7 (h : MS σ mo) : σ.ln (mo + 7) = 24 := by simp [MS] at h; simp [h]
/-- the oldest is dropped, if there are sixteen -/
theorem M_drop {n : Nat} {P : Nat → Nat → Nat} (h : MS σ mo) (hn : n = 16) (h32 : σ.fi 32 mo = nI n) (hP : ∀ i, i < n → ∀ j, j < 8 → σ.ai (mo + 6) (8 * i + j) = nI (P i j)) : ∃ τ, (bp (sX2_note_L11 mo FU σ 0) fun (s17 : St) => gI s17 32 (some mo) fun v18 => pI s17 32 (some mo) (v18 - 1) fun s19 => some s19) = some τ ∧ Ma mo σ τ ∧ τ.fi 32 mo = nI 15 ∧ τ.ai (mo + 5) = σ.ai (mo + 5) ∧ τ.ai (mo + 7) = σ.ai (mo + 7) ∧ ∀ F, F ≠ 32 → τ.fi F mo = σ.fi F mo ∧ ∀ i, i < 15 → ∀ j, j < 8 → τ.ai (mo + 6) (8 * i + j) = nI (P (i + 1) j) := by
  obtain ⟨b, e, g, rfl, hg⟩ := Wp_loop (fun m (b : St) k => sX2_note_L11 mo m b (nI k)) 120 (fun k b => ∃ g, b = σ.aI (mo + 6) g ∧ (∀ i, i < k → g i = σ.ai (mo + 6) (i + 8)) ∧ ∀ i, k ≤ i → g i = σ.ai (mo + 6) i) (Q := fun b => ∃ g, b = σ.aI (mo + 6) g ∧ ∀ i, i < 120 → g i = σ.ai (mo + 6) (i + 8)) (by decide) (fun m k b hk hi hs => by
    obtain ⟨g, rfl, g1, g2⟩ := hi
    have bm : MS (σ.aI (mo + 6) g) mo := h
    rw [sX2_note_L11]
    by_cases hkk : k = 120
    · subst hkk
      rw [if_pos (by decide)]
      exact ⟨_, rfl, g, rfl, g1⟩
    · have hk' : k < 120 := by omega
      rw [if_neg (show ¬ (120 : Int32) ≤ nI k from nI_ge (a := k) (b := 120) hk' (by decide)), M_r1014 bm, M_r1014 bm, show (8 : Int32) = nI 8 from rfl, nI_add, M_l6 bm (by omega), M_t6 bm (by omega), aI_aI, nI_1]
      refine hs hk' _ ⟨_, rfl, fun i hi => ?_, fun i hi => ?_⟩
      · rw [ai_aI, up1_eq, upA_ap]
        by_cases hik : i = k
        · rw [if_pos hik, hik]; exact g2 (k + 8) (by omega)
        · rw [if_neg hik]; exact g1 i (by omega)
      · rw [ai_aI, up1_eq, upA_ap, if_neg (by omega)]
        exact g2 i (by omega)) 0 (Nat.zero_le _) σ ⟨σ.ai (mo + 6), (aI_self ..).symm, fun i hi => by omega, fun i hi => rfl⟩
  have e' : sX2_note_L11 mo FU σ 0 = some (σ.aI (mo + 6) g) := e
  have bm : MS (σ.aI (mo + 6) g) mo := h
  have e32 : (σ.aI (mo + 6) g).fi 32 mo = nI 16 := by rw [← hn]; exact h32
  refine ⟨(σ.aI (mo + 6) g).sI 32 mo (nI 15), ?_, ((Ma.rf mo σ).aI (by omega)).sI (Or.inl rfl), fi_eq, up1_ne (by omega), up1_ne (by omega), fun F hF => ⟨fi_ne hF, fun i hi j hj => ?_⟩⟩
  · rw [e', bp_s, M_g32 bm, e32, M_p32 bm]; rfl
  · rw [ai_sI, ai_aI, up1_eq, hg _ (by omega), ← hP (i + 1) (by omega) j hj]
    congr 1; omega
theorem M_push {n : Nat} {P : Nat → Nat → Nat} (h : MS σ mo) (hS : AR σ mo 5 8 S) (hn : n ≤ 15) (h32 : σ.fi 32 mo = nI n) (hP : ∀ i, i < n → ∀ j, j < 8 → σ.ai (mo + 6) (8 * i + j) = nI (P i j)) : ∃ τ, (gR σ 1013 (some mo) fun v3 => gR σ 1014 (some mo) fun v4 => gI σ 32 (some mo) fun v5 => bp (sX2_copy σ v3 0 v4 (8 * v5) 8) fun s6 => gI s6 32 (some mo) fun v8 => pI s6 32 (some mo) (v8 + 1) fun s9 => some s9) = some τ ∧ Ma mo σ τ ∧ τ.fi 32 mo = nI (n + 1) ∧ τ.fi 33 mo = σ.fi 33 mo ∧ τ.ai (mo + 5) = σ.ai (mo + 5) ∧ τ.ai (mo + 7) = σ.ai (mo + 7) ∧ ∀ i, i < n + 1 → ∀ j, j < 8 → τ.ai (mo + 6) (8 * i + j) = nI (upA P n S i j) := by
  have l8 : (8 : Int32) * nI n = nI (8 * n) := by rw [show (8 : Int32) = nI 8 from rfl, pk_mul]
  have hc := M_copy (σ := σ) (a := mo + 5) (b := mo + 6) (sp := 0) (dp := 8 * n) (n := 8) (by omega) (h.ob' (by decide) (by decide)) (h.ob' (by decide) (by decide)) h.l5 h.l6 (by have := h.2.1; omega) (by decide) (by omega) (by decide) (by decide)
  have hc' : sX2_copy σ (some (mo + 5)) 0 (some (mo + 6)) (nI (8 * n)) 8 = _ := hc
  generalize hs6 : σ.aI (mo + 6) (cpF (σ.ai (mo + 5)) (σ.ai (mo + 6)) 0 (8 * n) 8) = s6 at hc'
  have m6 : Ma mo σ s6 := by rw [← hs6]; exact (Ma.rf mo σ).aI (by omega)
  have h6 := m6.ms h
  have e32 : s6.fi 32 mo = nI n := by rw [← hs6]; exact h32
  refine ⟨s6.sI 32 mo (nI (n + 1)), ?_, m6.sI (Or.inl rfl), fi_eq, (fi_ne (by decide)).trans (by rw [← hs6]; rfl), by rw [ai_sI, ← hs6]; exact up1_ne (by omega), by rw [ai_sI, ← hs6]; exact up1_ne (by omega), fun i hi j hj => ?_⟩
  · rw [M_r1013 h, M_r1014 h, M_g32 h, h32, l8, hc', bp_s, M_g32 h6, e32, nI_1, M_p32 h6]
  · rw [ai_sI, ← hs6, ai_aI, up1_eq, upA_ap]
    unfold cpF
    by_cases hin : i = n
    · subst hin
      rw [if_pos (by omega), if_pos rfl, show 0 + (8 * i + j - 8 * i) = j by omega]
      exact hS j hj
    · rw [if_neg (by omega), if_neg hin]
      exact hP i (by omega) j hj
/-- rows kept, told by the heap ahead -/
def HX (sx s1 s2 : St) (l t tr b F mo m : Nat) : Prop := ∃ (n : Nat) (f : Nat → Nat) (P : Nat → Nat → Nat), n ≤ m ∧ LQ s1 l n f ∧ s2.fi F mo = nI n ∧ ∀ i, i < n → SH sx (f i) t ∧ f i ≠ tr ∧ SC sx (f i) (P i) ∧ TB (P i) ∧ ∀ j, j < 8 → s2.ai (mo + b) (8 * i + j) = nI (P i j)
theorem HX.hi {s1 s2 : St} {l t tr b F m : Nat} (h : HX sx s1 s2 l t tr b F mo m) (hx : XO sx x) (hg : GW sx) (hf : FE (EA sx x) sx s1) : HI s1 s2 l t tr b F mo m := by
  obtain ⟨n, f, P, k1, k2, k3, k4⟩ := h
  refine ⟨n, f, P, k1, k2, k3, fun i hi => ?_⟩
  obtain ⟨j1, j2, j3, j4, j5⟩ := k4 i hi
  have := EA.sh hx hg j1
  exact ⟨j1.fe hf hg this.1 this.2, j2, j3.fe j1 hf hg this.1 this.2, j4, j5⟩
theorem HX.step {s1 s2 t1 t2 : St} {l t tr b F m : Nat} (h : HX sx s1 s2 l t tr b F mo m) (hl : ∀ n f, LQ s1 l n f → LQ t1 l n f) (hF : t2.fi F mo = s2.fi F mo) (hb : t2.ai (mo + b) = s2.ai (mo + b)) : HX sx t1 t2 l t tr b F mo m := by
  obtain ⟨n, f, P, k1, k2, k3, k4⟩ := h
  exact ⟨n, f, P, k1, hl n f k2, hF.trans k3, fun i hi => ⟨(k4 i hi).1, (k4 i hi).2.1, (k4 i hi).2.2.1, (k4 i hi).2.2.2.1, fun j hj => by rw [hb]; exact (k4 i hi).2.2.2.2 j hj⟩⟩
/-- all as it is is kept -/
theorem act_rem (h : CT x mo sx s0 sm w R S) (hr1 : 18000 ≤ sx.rc) (hr2 : 85000 ≤ sx.rs) : ∃ s1 s2 ns, sX1_remembers sx x = some s1 ∧ sX2_note s0 mo = some s2 ∧ FE (EA sx x) sx s1 ∧ GW s1 ∧ XO s1 x ∧ (∀ F, s1.fi F x = sx.fi F x) ∧ s1.fr 1001 x = some (w 0 0) ∧ s1.fr 1002 x = some ns ∧ s1.fr 1003 x = some (w 0 2) ∧ sx.sz ≤ ns ∧ SH s1 ns (w 0 0) ∧ SC s1 ns S ∧ Ma mo s0 s2 ∧ AR s2 mo 5 8 S ∧ HX sx s1 s2 (x + 2) (w 0 0) (w 0 2) 6 32 mo 16 ∧ HX sx s1 s2 (x + 3) (w 0 0) (w 0 2) 7 33 mo 3 ∧ sx.rc ≤ s1.rc + 100 ∧ sx.rs ≤ s1.rs + 1000 := by
  have hq := h.qc
  have hB := h.rb
  have b1 := hB.1
  have hg := hB.2.2.2.2.2.2.2
  have hms := h.ms
  have o2 := b1.2.2.2.1.2.1
  have o3 := b1.2.2.2.1.2.2.1
  have hlosz : sx.lo ≤ sx.sz := by have := hg.1 x (by rw [b1.1]; decide); have := b1.2.1; omega
  obtain ⟨n, f, P, k1, k2, k3, k4⟩ := h.rt.2.2.1
  obtain ⟨n3, fI, P3, k5, k6, k7, k8⟩ := h.rt.2.2.2
  have iv2 : ∀ {α : Type} (k : Nat → Option α), iv sx 6 (some (x + 2)) k = k (x + 2) := fun k => iv_ob o2 k
  -- dropping
  have hdrop : ∃ (τ : St) (t : St) (n0 : Nat) (f0 : Nat → Nat) (P0 : Nat → Nat → Nat), (bp (sJ2_size sx (x + 2)) fun v5 => if v5 = 16 then (gR sx 1004 (some x) fun v24 => iv sx 6 v24 fun w25 => bd (sJ2_remove sx w25 0) fun s28 v29 => some s28) else (some sx)) = some τ ∧ (if s0.fi 32 mo = 16 then (bp (sX2_note_L11 mo FU s0 0) fun (s17 : St) => gI s17 32 (some mo) fun v18 => pI s17 32 (some mo) (v18 - 1) fun s19 => some s19) else (some s0)) = some t ∧ n0 ≤ 15 ∧ FE (EL sx (x + 2)) sx τ ∧ GW τ ∧ τ.nn = sx.nn ∧ τ.ob = sx.ob ∧ τ.ln = sx.ln ∧ τ.fr = sx.fr ∧ LQ τ (x + 2) n0 f0 ∧ (∀ i, i < n0 → SH sx (f0 i) (w 0 0) ∧ f0 i ≠ w 0 2 ∧ SC sx (f0 i) (P0 i) ∧ TB (P0 i)) ∧ Ma mo s0 t ∧ t.fi 32 mo = nI n0 ∧ t.fi 33 mo = s0.fi 33 mo ∧ t.ai (mo + 5) = s0.ai (mo + 5) ∧ t.ai (mo + 7) = s0.ai (mo + 7) ∧ (∀ i, i < n0 → ∀ j, j < 8 → t.ai (mo + 6) (8 * i + j) = nI (P0 i j)) := by
    have e16 : (nI n = 16) = (n = 16) := nI_eq' (b := 16) (by omega) (by decide)
    rw [k2.size, bp_s, k3, iteP e16, iteP e16]
    by_cases hn : n = 16
    · obtain ⟨τ, e, x1, x2, x3, x4, x5, x6, x7⟩ := L_remove k2 hg (fun i hi => by rw [(k4 i hi).1.1]; decide) (i := 0) (by omega) (by omega)
      obtain ⟨t, e2, y1, y2, y3, y4, y5⟩ := M_drop hms hn k3 (fun i hi => (k4 i hi).2.2.2.2)
      have e' : sJ2_remove sx (x + 2) 0 = some (τ, some (f 0)) := e
      refine ⟨τ, t, 15, fun j => f (j + 1), fun i => P (i + 1), ?_, ?_, by decide, x1, x2, x4, x5, x6, x7, ?_, fun i hi => ?_, y1, y2, (y5 33 (by decide)).1, y3, y4, (y5 33 (by decide)).2⟩
      · rw [if_pos hn, g1004_5 b1.1, b1.2.2.1.2.1, iv2, e', bd_s]
      · rw [if_pos hn]; exact e2
      · have : (fun j => if j < 0 then f j else f (j + 1)) = fun j => f (j + 1) := by funext j; exact if_neg (by omega)
        rw [this, hn] at x3
        exact x3
      · have := k4 (i + 1) (by omega)
        exact ⟨this.1, this.2.1, this.2.2.1, this.2.2.2.1⟩
    · exact ⟨sx, s0, n, f, P, by rw [if_neg hn], by rw [if_neg hn], by omega, FE.rf sx, hg, rfl, rfl, rfl, rfl, k2, fun i hi => ⟨(k4 i hi).1, (k4 i hi).2.1, (k4 i hi).2.2.1, (k4 i hi).2.2.2.1⟩, Ma.rf mo s0, k3, rfl, rfl, rfl, fun i hi => (k4 i hi).2.2.2.2⟩
  obtain ⟨τ, t, n0, f0, P0, e1, e2, hn0, f1, g1, nn1, ob1, ln1, fr1, L1, el1, m1, c32, c33, c5, c7, c6⟩ := hdrop
  have lo1 : τ.lo = sx.lo := by simp only [St.lo, nn1]
  have rc1 : τ.rc = sx.rc := by simp only [St.rc, nn1]
  have rs1 : τ.rs = sx.rs := by simp only [St.rs, nn1]
  have sz1 : τ.sz = sx.sz := by simp only [St.sz, nn1]
  have hxE : ¬ EL sx (x + 2) x := by
    rintro (q | ⟨q, -⟩)
    · omega
    · obtain ⟨-, d, e, e4, -⟩ := hg.2 _ o2
      rw [q] at e; cases e; rw [b1.1] at e4; exact absurd e4 (by decide)
  have ax1 := f1.2.2.2.2.2 x (hg.1 x (by rw [b1.1]; decide)) hxE
  -- adding
  have sc0 : τ.ob (w 0 1) = 21 := by rw [ob1]; exact hq.xd.s1.1
  obtain ⟨τ2, e3, f2, g2, L2, rc2, rs2⟩ := L_add (e := w 0 1) L1 g1 (fun i hi => by rw [ob1, (el1 i hi).1.1]; decide) (by rw [sc0]; decide) (by omega) (by omega) (by omega)
  have hEL : EL τ (x + 2) = EL sx (x + 2) := by funext a; unfold EL; rw [fr1, ln1]
  rw [hEL] at f2
  have f12 := f1.tr f2
  have ax2 := f12.2.2.2.2.2 x (hg.1 x (by rw [b1.1]; decide)) hxE
  have hx2 : τ2.fr 1002 x = some (w 0 1) := (ax2.2.2.2.1 _).trans hq.xd.2.2.1
  have ob2 : τ2.ob x = 5 := by rw [ax2.1]; exact b1.1
  have shE : ∀ {s t : Nat}, SH sx s t → ¬ EL sx (x + 2) s ∧ ¬ EL sx (x + 2) (s + 1) := fun hs => ⟨fun q => (EA.sh b1 hg hs).1 (Or.inr (Or.inl q)), fun q => (EA.sh b1 hg hs).2 (Or.inr (Or.inl q))⟩
  have s2h := hq.xd.s1.fe f12 hg (shE hq.xd.s1).1 (shE hq.xd.s1).2
  have s2c := hq.sc.fe hq.xd.s1 f12 hg (shE hq.xd.s1).1 (shE hq.xd.s1).2
  have lo2 : τ2.lo = sx.lo := f12.1
  -- copying
  obtain ⟨τ3, e4, f3, g3, hS3, hC3, rc3, rs3⟩ := X_copy s2h s2c g2 (by omega) (by omega) (by rw [lo2]; have := f12.2.2.1; omega)
  have f123 : FE (EL sx (x + 2)) sx τ3 := f12.tr (f3.mono (fun a _ q => q.elim))
  have ax3 := f123.2.2.2.2.2 x (hg.1 x (by rw [b1.1]; decide)) hxE
  have ob3 : τ3.ob x = 5 := by rw [ax3.1]; exact b1.1
  have hlx : τ3.lo ≤ x := by rw [f123.1]; exact b1.2.1
  have f4 : FE (EA sx x) sx (τ3.sR 1002 x (some τ2.sz)) := (f123.mono (fun a _ q => Or.inr (Or.inl q))).sR (Or.inl rfl)
  have agx : ∀ a, sx.ob a ≠ 0 → ¬ EL sx (x + 2) a → Ag sx τ3 a := fun a h0 hn => f123.2.2.2.2.2 a (hg.1 a h0) hn
  have own : ∀ j, 1 ≤ j → j ≤ 5 → sx.ob (x + j) ≠ 0 := fun j h1 h2 => by
    obtain ⟨p1, p2, p3, p4, p5⟩ := b1.2.2.2.1
    rcases (show j = 1 ∨ j = 2 ∨ j = 3 ∨ j = 4 ∨ j = 5 by omega) with rfl | rfl | rfl | rfl | rfl <;> omega
  have el_ob : ∀ a, EL sx (x + 2) a → sx.ob a = 6 ∧ a = x + 2 ∨ sx.ob a = 4 := by
    rintro a (q | ⟨q, -⟩)
    · exact Or.inl ⟨by rw [q]; exact o2, q⟩
    · obtain ⟨-, d, e, e4, -⟩ := hg.2 _ o2
      rw [q] at e; cases e; exact Or.inr e4
  have xo3 : XO (τ3.sR 1002 x (some τ2.sz)) x := by
    obtain ⟨q1, q2, q3, ⟨p1, p2, p3, p4, p5⟩, ⟨l1, l4, l5⟩⟩ := b1
    have a1 := agx (x + 1) (by omega) (fun q => by rcases el_ob _ q with ⟨r, -⟩ | r <;> omega)
    have a3 := agx (x + 3) (by omega) (fun q => by rcases el_ob _ q with ⟨r, r2⟩ | r <;> omega)
    have a4 := agx (x + 4) (by omega) (fun q => by rcases el_ob _ q with ⟨r, -⟩ | r <;> omega)
    have a5 := agx (x + 5) (by omega) (fun q => by rcases el_ob _ q with ⟨r, -⟩ | r <;> omega)
    have e2' : τ3.ob (x + 2) = 6 := by
      have := f3.2.2.2.2.2 (x + 2) (g2.1 _ (by rw [L2.1]; decide)) (fun q => q)
      rw [this.1]; exact L2.1
    have fx : ∀ F, F ≠ 1002 → (τ3.sR 1002 x (some τ2.sz)).fr F x = sx.fr F x := fun F hF => by
      rw [fr_sR, up2_ap, if_neg (fun q => hF q.1)]
      exact ax3.2.2.2.1 F
    exact ⟨ob3, hlx, ⟨(fx 1000 (by decide)).trans q3.1, (fx 1004 (by decide)).trans q3.2.1, (fx 1005 (by decide)).trans q3.2.2.1, (fx 1006 (by decide)).trans q3.2.2.2.1, (fx 1007 (by decide)).trans q3.2.2.2.2⟩, ⟨by show τ3.ob _ = _; rw [a1.1]; exact p1, e2', by show τ3.ob _ = _; rw [a3.1]; exact p3, by show τ3.ob _ = _; rw [a4.1]; exact p4, by show τ3.ob _ = _; rw [a5.1]; exact p5⟩, ⟨by show τ3.ln _ = _; rw [a1.2.1]; exact l1, by show τ3.ln _ = _; rw [a4.2.1]; exact l4, by show τ3.ln _ = _; rw [a5.2.1]; exact l5⟩⟩
  obtain ⟨t2, e5, m2, d32, d33, d5, d7, d6⟩ := M_push (P := P0) (n := n0) (m1.ms hms) (fun i hi => by rw [c5]; exact h.mc.2.2.1 i hi) hn0 c32 c6
  refine ⟨_, t2, τ2.sz, ?_, ?_, f4, g3.sR (by decide), xo3, fun F => ax3.2.2.1 F, ?_, ?_, ?_, ?_, hS3, hC3, m1.tr m2, fun i hi => by rw [d5, c5]; exact h.mc.2.2.1 i hi, ?_, ?_, ?_, ?_⟩
  · unfold sX1_remembers
    rw [g1004_5 b1.1, b1.2.2.1.2.1, iv2]
    have e1' : (bp (sJ2_size sx (x + 2)) fun v5 => bp (if v5 = 16 then (gR sx 1004 (some x) fun v24 => iv sx 6 v24 fun w25 => bd (sJ2_remove sx w25 0) fun s28 v29 => some s28) else (some sx)) fun (s7 : St) => gR s7 1004 (some x) fun v8 => gR s7 1002 (some x) fun v9 => iv s7 6 v8 fun w10 => bd (sJ2_add s7 w10 v9) fun s13 v14 => gR s13 1002 (some x) fun v16 => iv s13 21 v16 fun w17 => bd (sX14_copy s13 w17) fun s20 v21 => pR s20 1002 (some x) v21 fun s23 => some s23) = (gR τ 1004 (some x) fun v8 => gR τ 1002 (some x) fun v9 => iv τ 6 v8 fun w10 => bd (sJ2_add τ w10 v9) fun s13 v14 => gR s13 1002 (some x) fun v16 => iv s13 21 v16 fun w17 => bd (sX14_copy s13 w17) fun s20 v21 => pR s20 1002 (some x) v21 fun s23 => some s23) := by
      rw [k2.size, bp_s] at e1 ⊢
      rw [e1, bp_s]
    have ivt : ∀ {α : Type} (k : Nat → Option α), iv τ 6 (some (x + 2)) k = k (x + 2) := fun k => iv_ob (by rw [ob1]; exact o2) k
    rw [e1', g1004_5 (by rw [ob1]; exact b1.1), show τ.fr 1004 x = some (x + 2) by rw [fr1]; exact b1.2.2.1.2.1, g1002_5 (by rw [ob1]; exact b1.1), show τ.fr 1002 x = some (w 0 1) by rw [fr1]; exact hq.xd.2.2.1, ivt, e3, bd_s, g1002_5 ob2, hx2, s2h.i21, e4, bd_s, p1002_5 ob3 hlx]
  · unfold sX2_note
    rw [M_g32 hms]
    have e2' := e2
    rw [e2', bp_s]
    exact e5
  · rw [fr_sR, up2_ap, if_neg (by omega)]
    exact (ax3.2.2.2.1 _).trans hq.xd.2.1
  · exact if_pos ⟨rfl, rfl⟩
  · rw [fr_sR, up2_ap, if_neg (by omega)]
    exact (ax3.2.2.2.1 _).trans hq.xd.2.2.2.1
  · exact f12.2.2.1
  · have L3 : LQ (τ3.sR 1002 x (some τ2.sz)) (x + 2) (n0 + 1) (upA f0 n0 (w 0 1)) := by
      have : LQ τ3 (x + 2) (n0 + 1) (upA f0 n0 (w 0 1)) := L2.fe f3 g2 (fun q => q) (fun d _ q => q)
      obtain ⟨q1, q2, d, q3, q4⟩ := this
      exact ⟨q1, q2, d, by rw [fr_sR, up2_ap, if_neg (by omega)]; exact q3, q4⟩
    refine ⟨n0 + 1, upA f0 n0 (w 0 1), upA P0 n0 S, by omega, L3, d32, fun i hi => ?_⟩
    refine ⟨?_, ?_, ?_, ?_, d6 i hi⟩
    all_goals
      rw [upA_ap]
      try rw [upA_ap]
      by_cases hin : i = n0
    · rw [if_pos hin]; exact hq.xd.s1
    · rw [if_neg hin]; exact (el1 i (by omega)).1
    · rw [if_pos hin]; exact hq.xd.2.2.2.2.2.2
    · rw [if_neg hin]; exact (el1 i (by omega)).2.1
    · rw [if_pos hin, if_pos hin]; exact hq.sc
    · rw [if_neg hin, if_neg hin]; exact (el1 i (by omega)).2.2.1
    · rw [if_pos hin]; exact hq.tb
    · rw [if_neg hin]; exact (el1 i (by omega)).2.2.2
  · refine ⟨n3, fI, P3, k5, ?_, (d33.trans c33).trans k7, fun i hi => ?_⟩
    · have hn3 : x + 3 ≠ x + 2 := by omega
      have e3 : ¬ EL sx (x + 2) (x + 3) := by
        rintro (q | ⟨q, -⟩)
        · omega
        · obtain ⟨-, d, e, e4, -⟩ := hg.2 _ o2
          rw [q] at e; cases e; rw [o3] at e4; exact absurd e4 (by decide)
      have : LQ τ3 (x + 3) n3 fI := k6.fe f123 hg e3 (fun d hd => EL.no hg o3 o2 hn3 hd)
      obtain ⟨q1, q2, d, q3, q4⟩ := this
      exact ⟨q1, q2, d, by rw [fr_sR, up2_ap, if_neg (by omega)]; exact q3, q4⟩
    · obtain ⟨j1, j2, j3, j4, j5⟩ := k8 i hi
      exact ⟨j1, j2, j3, j4, fun j hj => by rw [d7, c7]; exact j5 j hj⟩
  · show sx.rc ≤ τ3.rc + 100; omega
  · show sx.rs ≤ τ3.rs + 1000; omega
theorem X_den {c : Int32} (hx : σ.ob x = 5) (hl : σ.lo ≤ x) : sX1_denied σ x c = some (en σ x c, 0) := by
  unfold sX1_denied
  rw [kd_ob hx, X_refused hx hl, bd_s]
theorem M_isNot {c : Int32} (h : MS σ mo) : sX2_isNot σ mo c = some (σ.sI 29 mo c, 0) := by
  unfold sX2_isNot
  rw [M_p29 h]
theorem okz0 {α : Type} (k : Option α) : ok (okZ 0) k = k := rfl
theorem okz1 {α : Type} (k : Option α) : ok (okZ 1) k = k := rfl
theorem op_den (h : RL x mo sx sm) (c : Int32) (hc : c ≠ 4) : Op x mo sx sm (en sx x c, (0 : Int32)) ((gd sm mo).sI 29 mo c, 0) :=
  ⟨rfl, h.refuse c hc, ⟨by show sx.rc ≤ sx.rc + 18000; omega, by show sx.rs ≤ sx.rs + 85000; omega⟩, rfl⟩
theorem X_grant (hx : σ.ob x = 5) (hl : σ.lo ≤ x) : sX1_granted σ x = some (en σ x 0, 1) := by
  unfold sX1_granted
  rw [kd_ob hx, X_well hx hl, bd_s]
theorem LQ.sIx {l n F a : Nat} {v : Int32} {f : Nat → Nat} (h : LQ σ l n f) (hF : F ≠ 18) : LQ (σ.sI F a v) l n f := ⟨h.1, (fi_ne (Ne.symm hF)).trans h.2.1, h.2.2⟩
theorem OP_brk (h : RL x mo sx sm) (hr1 : 18000 ≤ sx.rc) (hr2 : 85000 ≤ sx.rs) (p : Int32) (B : Bool) : W2 (kd sx x 5 <| bd (sX1_bricksUp sx x p (nI (b1 B))) fun s2 v3 => ok (okZ v3) <| some (s2, v3)) (kd sm mo 7 <| bp (sX2_good sm mo) fun s2 => kd s2 mo 7 <| bd (sX2_becomes s2 mo p (nI (b1 B))) fun s5 v6 => ok (okZ v6) <| some (s5, v6)) (Op x mo sx sm) := by
  obtain ⟨b, g1, g2, g3⟩ := h.isK p
  dsimp only at g2
  have hm := gd_ms h.1.2.1
  have hx := h.1.1
  unfold sX1_bricksUp sX2_becomes
  rw [kd_ob hx.1, kd_ob hx.1, g1, bp_s, M_kd h.1.2.1, M_good h.1.2.1, bp_s, M_kd hm, M_kd hm, g2, bp_s]
  cases b
  · rw [if_pos (by decide), if_pos (by decide), kd_ob hx.1, X_den hx.1 hx.2.1, bd_s, okz0, bd_s, okz0, M_kd hm, M_isNot hm, bd_s, okz0, bd_s, okz0]
    exact W2_ret (op_den h 1 (by decide))
  · rw [if_neg b1t, if_neg b1t]
    obtain ⟨w, R, S, k, hC, hk, rfl⟩ := g3 rfl
    have hq := hC.qc
    have h2 := hq.wf.2.2.2.1
    have h6 := hq.tb.2
    rw [hq.xd.r1002, hq.xd.s1.g77 hq.sc, X_has (by omega) (by omega), bp_s, M_r1013 hm, show (6 : Int32) = nI 6 from rfl, M_l5 hm (by decide), hC.mc.2.2.1 6 (by decide), M_hasBit (by omega) (by omega), bp_s]
    by_cases hb : (S 6).testBit k = B
    · have e : nI (b1 ((S 6).testBit k)) = nI (b1 B) := by rw [hb]
      rw [if_pos e, if_pos e, kd_ob hx.1, X_den hx.1 hx.2.1, bd_s, okz0, bd_s, okz0, M_kd hm, M_isNot hm, bd_s, okz0, bd_s, okz0]
      exact W2_ret (op_den h 5 (by decide))
    · have e : ¬ nI (b1 ((S 6).testBit k)) = nI (b1 B) := by
        revert hb
        cases (S 6).testBit k <;> cases B <;> simp [b1] <;> decide
      obtain ⟨s1, s2, ns, e1, e2, f1, g1', xo1, fi1, r1, r2, r3, hns, hS1, hC1, m1, a5, p1, p2, rc1, rs1⟩ := act_rem hC hr1 hr2
      have hm2 := m1.ms hm
      have l1 : (1 : Int32) <<< (nI k &&& 31) = nI (2 ^ k) := nI_shl1 (by omega)
      have hv : S 6 ^^^ 2 ^ k < 256 := Nat.xor_lt_two_pow (n := 8) h6 (pow_le_of (n := 8) (by omega))
      have xo2 : XO (s1.sI 77 ns (nI (S 6 ^^^ 2 ^ k))) x := xo1
      have hnx : ns ≠ x := by have := (h.1.2.2.2.2.2.2.2).1 x (by rw [hx.1]; decide); omega
      have hntr : ns ≠ w 0 2 := by have := (h.1.2.2.2.2.2.2.2).1 (w 0 2) (by rw [hq.xd.s2.1]; decide); omega
      rw [if_neg e, if_neg e, kd_ob hx.1, e1, bp_s, g1002_5 xo1.1, r2, hS1.g77 hC1, l1, nI_xor, hS1.p77, kd_ob xo2.1, X_grant xo2.1 xo2.2.1, bd_s, okz1, bd_s, okz1, M_kd hm, e2, bp_s, M_r1013 hm2, M_l5 hm2 (by decide), a5 6 (by decide), nI_xor, M_t5 hm2 (by decide), bd_s, okz1]
      have f2 : FE (EA sx x) sx (s1.sI 77 ns (nI (S 6 ^^^ 2 ^ k))) := f1.sIn hns
      have m2 : Ma mo (gd sm mo) (s2.aI (mo + 5) (upA (s2.ai (mo + 5)) 6 (nI (S 6 ^^^ 2 ^ k)))) := m1.aI (by omega)
      refine W2_ret (act_end (T := upA S 6 (S 6 ^^^ 2 ^ k)) hC f2 g1' xo2 (fun F h2 h3 => by rw [fi_sI, up2_ap, if_neg (by omega)]; exact fi1 F) r1 r2 r3 hntr hS1 (SC.brk hC1) (hq.tb.br hv) m2 ?_ ((p1.step (t2 := s2.aI (mo + 5) (upA (s2.ai (mo + 5)) 6 (nI (S 6 ^^^ 2 ^ k)))) (fun n f hl => hl.sIx (by decide)) rfl (by rw [ai_aI, up1_ne (by omega)])).hi hx h.1.2.2.2.2.2.2.2 f2) ((p2.step (t2 := s2.aI (mo + 5) (upA (s2.ai (mo + 5)) 6 (nI (S 6 ^^^ 2 ^ k)))) (fun n f hl => hl.sIx (by decide)) rfl (by rw [ai_aI, up1_ne (by omega)])).hi hx h.1.2.2.2.2.2.2.2 f2) rfl (by show sx.rc ≤ s1.rc + 18000; omega) (by show sx.rs ≤ s1.rs + 85000; omega))
      intro i hi
      rw [ai_aI, up1_eq, upA_ap, upA_ap]
      split
      · rfl
      · exact a5 i hi
theorem OP_brick (h : RL x mo sx sm) (hr1 : 18000 ≤ sx.rc) (hr2 : 85000 ≤ sx.rs) (p : Int32) : W2 (sX1_brick sx x p) (sX2_brick sm mo p) (Op x mo sx sm) := OP_brk h hr1 hr2 p true
theorem OP_open (h : RL x mo sx sm) (hr1 : 18000 ≤ sx.rc) (hr2 : 85000 ≤ sx.rs) (p : Int32) : W2 (sX1_open sx x p) (sX2_open sm mo p) (Op x mo sx sm) := OP_brk h hr1 hr2 p false
theorem OP_spent (h : RL x mo sx sm) : W2 (sX1_spent sx x) (sX2_spent sm mo) (Op x mo sx sm) := by
  unfold sX1_spent sX2_spent
  refine op_town h ?_
  intro w R S hC
  rw [hC.qc.xd.r1002, hC.qc.xd.s1.g78 hC.qc.sc, M_r1013 hC.ms, show (7 : Int32) = nI 7 from rfl, M_l5 hC.ms (by decide), hC.mc.2.2.1 7 (by decide)]
  exact fin_wellI hC hC.iq0 rfl
end
