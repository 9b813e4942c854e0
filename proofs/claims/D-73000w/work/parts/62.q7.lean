/-! QUERIES: unsure wits -/
set_option maxRecDepth 100000
theorem itN_last {β : Type} (f : Nat → β → β) (d k : Nat) (b : β) : itN f (d + 1) k b = f (k + d) (itN f d k b) := by
  rw [itN_add]
  rfl
def Z0 : Nat → Nat := fun _ => 0
theorem Z0_tb : TB Z0 := ⟨fun _ _ => Nat.zero_le _, Nat.zero_lt_succ _⟩
/-- the first quarrel told to have ended that doesn't so -/
def wrS (R : Nat → Nat) (u : Nat) : Nat → Nat → Int
  | _, 0 => -2
  | k, d + 1 => if R (103 + k) ≠ 0 ∧ zI (TO R Z0 none u k none 0).at' ≠ nI (R (103 + k) - 1) then (k : Int) else wrS R u (k + 1) d
theorem wrS_rg (R : Nat → Nat) (u : Nat) : ∀ d k, -2 ≤ wrS R u k d ∧ wrS R u k d < k + d := by
  intro d
  induction d with
  | zero => intro k; exact ⟨by show (-2 : Int) ≤ -2; omega, by show (-2 : Int) < _; omega⟩
  | succ d ih =>
    intro k
    unfold wrS
    split
    · exact ⟨by omega, by omega⟩
    · have := ih (k + 1); exact ⟨this.1, by omega⟩
section
variable {x mo : Nat} {σ sx s0 sm : St} {w : Nat → Nat → Nat} {R S T : Nat → Nat} {pl : Option Nat} {oth : Nat}
theorem X_onM {s q : Nat} (h : QC σ x w R S) (hs : SH σ s (w 0 0)) (hc : SC σ s T) (hb : TB T) (hf : FL σ x pl oth false) (hpm : ∀ q, pl = some q → q < 6) (ho6 : oth < 2147483648) (hq : q < R 5) : ∃ τ, sX1_brawlsOn σ x (some s) (nI q) = some (τ, zI (TO R T pl oth q none 0).en) ∧ Mf cX σ τ ∧ τ.fi 7 x = zI (TO R T pl oth q none 0).at' := by
  have hw := h.wf
  obtain ⟨w0, w1, w2, w3, w4, w5, w6, w7, w8, w9, w10, w11, w12, w13⟩ := id hw
  obtain ⟨u1, u2, u3, u4, u5, u6, u7⟩ := w11 q hq
  obtain ⟨τ, e, m, hx⟩ := X_brawls (p := R (82 + 5 * q)) (fr := R (83 + 5 * q)) (dr := 0) h.xd h.xt h.wf hs hc hb hf.1 hpm hf.2.1 ho6 false hf.2.2 (fun q => by cases q) hq (by omega) (by omega) (O := TO R T pl oth q none 0) rfl
  refine ⟨τ, ?_, m, hx.1⟩
  unfold sX1_brawlsOn
  rw [h.xd.r1001, h.xt.i10, h.xt.qg hw hq, bp_s, h.xt.q73 hq, h.xd.r1001, h.xt.i10, h.xt.qg hw hq, bp_s, h.xt.q74 hq, h.xd.k5, e, bd_s]
theorem X_begins {s t : Nat} (x : Nat) (hs : SH σ s t) : ∃ τ, sX14_begins σ s = some τ ∧ Xq x s σ τ ∧ SC τ s Z0 ∧ (∀ F a, F ≠ 77 → F ≠ 78 → τ.fi F a = σ.fi F a) ∧ ∀ a, a ≠ s + 1 → τ.ai a = σ.ai a := by
  have hl := Wp_loop (fun n (b : St) k => sX14_begins_L2 s n b (nI k)) 6 (fun k b => Xq x s σ b ∧ (∀ p, p < k → b.ai (s + 1) p = oI 0) ∧ (∀ F a, b.fi F a = σ.fi F a) ∧ ∀ a, a ≠ s + 1 → b.ai a = σ.ai a) (Q := fun b => Xq x s σ b ∧ (∀ p, p < 6 → b.ai (s + 1) p = oI 0) ∧ (∀ F a, b.fi F a = σ.fi F a) ∧ ∀ a, a ≠ s + 1 → b.ai a = σ.ai a) (by decide) (fun n k b hk hi hn => by
    obtain ⟨i1, i2, i3, i4⟩ := hi
    have bs := i1.sh hs
    rw [sX14_begins_L2]
    by_cases hkk : k = 6
    · subst hkk
      rw [if_pos (by decide)]
      exact ⟨_, rfl, i1, i2, i3, i4⟩
    · have hk' : k < 6 := by omega
      rw [if_neg (show ¬ (6 : Int32) ≤ nI k from nI_ge (a := k) (b := 6) hk' (by decide)), bs.r1036, bs.t1 hk', nI_1]
      refine hn hk' _ ⟨i1.at', fun p hp => ?_, i3, fun a ha => by rw [ai_aI, up1_ne ha]; exact i4 a ha⟩
      rw [ai_aI, up1_eq, upA_ap]
      split
      · decide
      · exact i2 p (by omega)) 0 (Nat.zero_le _) σ ⟨Xq.rf .., fun p hp => by omega, fun _ _ => rfl, fun _ _ => rfl⟩
  obtain ⟨b, e, i1, i2, i3, i4⟩ := hl
  have e' : sX14_begins_L2 s FU σ 0 = some b := e
  have bs := i1.sh hs
  have x2 : Xq x s σ (b.sI 77 s 0) := i1.st (Or.inl rfl)
  refine ⟨(b.sI 77 s 0).sI 78 s 0, ?_, x2.st (Or.inr rfl), ⟨i2, ?_, fi_eq⟩, fun F a h1 h2 => ?_, i4⟩
  · unfold sX14_begins
    rw [e', bp_s, bs.p77, (x2.sh hs).p78]
  · rw [fi_sI, up2_ap, if_neg (by omega)]
    exact fi_eq
  · rw [fi_sI, up2_ap, if_neg (fun q => h2 q.1), fi_sI, up2_ap, if_neg (fun q => h1 q.1)]
    exact i3 F a
theorem eI_1 {n : Nat} (h : n < 2147483648) : (eI n = -1) = (n = 0) := by
  unfold eI
  by_cases h0 : n = 0
  · simp [h0]; rfl
  · rw [if_neg h0, show (-1 : Int32) = zI (-1) from rfl, nI_ne_z (by omega) (by omega) (by omega)]
    simp [h0]
/-- what stays the same at the desk while wits are tried -/
def Ke (x : Nat) (σ τ : St) : Prop := (∀ F, 13 ≤ F → F ≤ 16 → τ.fi F x = σ.fi F x) ∧ τ.ai (x + 4) = σ.ai (x + 4)
theorem Ke.tr {x : Nat} {σ τ υ : St} (h : Ke x σ τ) (k : Ke x τ υ) : Ke x σ υ := ⟨fun F h1 h2 => (k.1 F h1 h2).trans (h.1 F h1 h2), k.2.trans h.2⟩
theorem Mf.ke {x : Nat} {σ τ : St} (h : Mf cX σ τ) : Ke x σ τ := ⟨fun F h1 h2 => h.2.2.2.2.2.2.2 F x (by simp [cX]; omega), by rw [h.2.2.2.2.1]⟩
theorem X_wrong {u : Nat} (h : QC σ x w R S) (hf : FL σ x none 0 false) (hu : u < 16) : ∃ τ, sX1_wrongEnd σ x (nI u) = some (τ, zI (wrS R u 0 (R 5))) ∧ Xq x (w 0 2) σ τ ∧ FL τ x none 0 false ∧ Ke x σ τ := by
  have hw := h.wf
  have h5 := hw.2.2.2.2.2.2.1
  obtain ⟨τ, e, x1, c1, f1, a1⟩ := X_begins x h.xd.s2
  have q1 := h.xq x1
  have x2 : Xq x (w 0 2) σ (τ.sI 5 x (nI u)) := x1.sx (by decide) (by decide)
  have q2 := h.xq x2
  have k2 : Ke x σ (τ.sI 5 x (nI u)) := ⟨fun F h1 h2 => by rw [fi_sI, up2_ap, if_neg (by omega)]; exact f1 F x (by omega) (by omega), a1 _ (fun e => by
    have o1 := h.xd.1.2.2.2.1.2.2.2.1
    rw [e, h.xd.s2.2.2.2.2.1] at o1
    exact absurd o1 (by decide))⟩
  have g2 : FL (τ.sI 5 x (nI u)) x none u false := ⟨(fi_ne (by decide)).trans ((f1 4 x (by decide) (by decide)).trans hf.1), fi_eq, (fi_ne (by decide)).trans ((f1 12 x (by decide) (by decide)).trans hf.2.2)⟩
  have c2 : SC (τ.sI 5 x (nI u)) (w 0 2) Z0 := ⟨c1.1, (fi_ne (by decide)).trans c1.2.1, (fi_ne (by decide)).trans c1.2.2⟩
  generalize hσ2 : τ.sI 5 x (nI u) = σ2 at x2 q2 k2 g2 c2
  have hl : ∀ k s v m, k ≤ R 5 → k < m → Mf cX σ2 s → v = zI (wrS R u k (R 5 - k)) → ∃ ρ, sX1_wrongEnd_L22 x m s v (nI k - 1) = some (ρ, zI (wrS R u 0 (R 5))) ∧ Mf cX σ2 ρ := by
    intro k
    induction k with
    | zero =>
      intro s v m hk hm hq hv
      obtain ⟨m, rfl⟩ : ∃ j, m = j + 1 := ⟨m - 1, by omega⟩
      refine ⟨s, ?_, hq⟩
      rw [sX1_wrongEnd_L22, if_pos (by decide), hv]
      rfl
    | succ k ih =>
      intro s v m hk hm hq hv
      obtain ⟨m, rfl⟩ : ∃ j, m = j + 1 := ⟨m - 1, by omega⟩
      have sq := q2.xq (hq.xq x (w 0 2) cX_q)
      have sc := hq.sc cX_hi c2
      have sf := hq.fl g2
      have hk' : k < R 5 := by omega
      have h60 := hw.2.2.2.2.2.2.2.2.2.2.2.2.2 k hk'
      obtain ⟨ρ, e3, m3, a3⟩ := X_onM sq sq.xd.s2 sc Z0_tb sf np (by omega) hk'
      have rq := q2.xq ((hq.tr m3).xq x (w 0 2) cX_q)
      have e3' : R 5 - k = (R 5 - (k + 1)) + 1 := by omega
      rw [sX1_wrongEnd_L22, show nI (k + 1) - 1 = nI k from nI_pred k, if_neg (nI_pos (by omega)), sq.xd.r1001, sq.xt.i10, sq.xt.qg hw hk', bp_s, sq.xt.q76 hk', iteP (eI_1 (by omega)), show nI k + -1 = nI k - 1 from (Int32.sub_eq_add_neg ..).symm]
      by_cases h0 : R (103 + k) = 0
      · rw [if_pos h0, b2_s]
        refine ih s v m (by omega) (by omega) hq ?_
        rw [e3', wrS, if_neg (fun a => a.1 h0)]
        exact hv
      · rw [if_neg h0, sq.xd.r1003, sq.xd.k5, e3, bd_s, g7_5 rq.xd.1.1, a3, rq.xd.r1001, rq.xt.i10, rq.xt.qg hw hk', bp_s, rq.xt.q76 hk', show eI (R (103 + k)) = nI (R (103 + k) - 1) from if_neg h0]
        by_cases hz : zI (TO R Z0 none u k none 0).at' = nI (R (103 + k) - 1)
        · rw [if_pos hz, b2_s]
          refine ih ρ v m (by omega) (by omega) (hq.tr m3) ?_
          rw [e3', wrS, if_neg (fun a => a.2 hz)]
          exact hv
        · rw [if_neg hz, b2_s]
          refine ih ρ (nI k) m (by omega) (by omega) (hq.tr m3) ?_
          rw [e3', wrS, if_pos ⟨h0, hz⟩]
          exact nI_z k
  obtain ⟨ρ, e4, m4⟩ := hl (R 5) σ2 (-2) FU (Nat.le_refl _) (by show _ < 100000; omega) (Mf.rf _ _) (by rw [Nat.sub_self]; rfl)
  have x4 : Xq x (w 0 2) σ ρ := x2.tr' (m4.xq x (w 0 2) cX_q)
  have q4 := h.xq x4
  have f4 := m4.fl g2
  have k4 := k2.tr m4.ke
  refine ⟨ρ.sI 5 x 0, ?_, x4.sx (by decide) (by decide), ⟨(fi_ne (by decide)).trans f4.1, fi_eq, (fi_ne (by decide)).trans f4.2.2⟩, ⟨fun F h1 h2 => by rw [fi_sI, up2_ap, if_neg (by omega)]; exact k4.1 F h1 h2, k4.2⟩⟩
  unfold sX1_wrongEnd
  have e4' : sX1_wrongEnd_L22 x FU σ2 (-2) (nI (R 5) - 1) = some (ρ, zI (wrS R u 0 (R 5))) := e4
  rw [h.xd.r1003, h.xd.s2.i21, e, bp_s, p5_5 q1.xd.1.1 q1.xd.1.2.1, hσ2, q2.xd.k5, X_quarrels q2.xd q2.xt, bp_s, e4', b2_s, p5_5 q4.xd.1.1 q4.xd.1.2.1]
end
