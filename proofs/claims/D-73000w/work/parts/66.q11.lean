/-! QUERIES: quarrels with boys, by draws -/
set_option maxRecDepth 100000
section
variable {x mo : Nat} {σ sx s0 sm : St} {w : Nat → Nat → Nat} {R S T : Nat → Nat} {pl : Option Nat} {oth : Nat}
theorem X_by {q dr : Nat} (h : QC σ x w R S) (hf : FL σ x none 0 false) (hdr : σ.fi 11 x = nI dr) (hd : dr < 65537) (hq : q < R 5) : ∃ τ, sX1_brawlsBy σ x (nI q) = some (τ, zI (TO R S none 0 q (some none) dr).en) ∧ Xq x (w 0 2) σ τ ∧ FL τ x none 0 false ∧ τ.fi 7 x = zI (TO R S none 0 q (some none) dr).at' ∧ τ.fi 11 x = nI (TO R S none 0 q (some none) dr).dr ∧ (TO R S none 0 q (some none) dr).dr < 65537 := by
  have x1 : Xq x (w 0 2) σ (σ.sI 12 x 1) := (Xq.rf ..).sx (by decide) (by decide)
  have q1 := h.xq x1
  have f1 : FL (σ.sI 12 x 1) x none 0 true := ⟨(fi_ne (by decide)).trans hf.1, (fi_ne (by decide)).trans hf.2.1, fi_eq⟩
  obtain ⟨τ, e, x2, q2, f2, X2⟩ := X_now (dr := dr) q1 f1 np (by decide) (fun _ => ⟨(fi_ne (by decide)).trans hdr, hd⟩) hq
  have eb : bB true = some none := rfl
  rw [eb] at e X2
  refine ⟨τ.sI 12 x 0, ?_, (x1.tr' x2).sx (by decide) (by decide), ⟨(fi_ne (by decide)).trans f2.1, (fi_ne (by decide)).trans f2.2.1, fi_eq⟩, (fi_ne (by decide)).trans X2.1, (fi_ne (by decide)).trans (X2.2.2.2.2 rfl).1, (X2.2.2.2.2 rfl).2⟩
  unfold sX1_brawlsBy
  rw [p12_5 h.xd.1.1 h.xd.1.2.1, q1.xd.k5, e, bd_s, p12_5 q2.xd.1.1 q2.xd.1.2.1]
theorem M_by {q dr : Nat} {B : Option Nat} (h : MC σ mo R S) (ht : TRL σ mo R T oth pl) (hw : WF R) (hb : TB T) (hB : BB σ mo (some B) dr) (hq : q < R 5) : ∃ τ, sX2_runWithBoys σ mo (nI q) = some τ ∧ Mq mo σ τ ∧ MC τ mo R S ∧ TRL τ mo R T oth pl ∧ RF τ mo (some B) (TO R T pl oth q (some B) dr) := by
  obtain ⟨w0, w1, w2, w3, w4, w5, w6, w7, w8, w9, w10, w11, w12, w13⟩ := id hw
  obtain ⟨u1, u2, u3, u4, u5, u6, u7⟩ := w11 q hq
  obtain ⟨τ, e, m1, m2, m3, m4, -⟩ := M_rn (p := R (82 + 5 * q)) (fr := R (83 + 5 * q)) h ht hw hb hB hq (by omega) (by omega)
  refine ⟨τ, ?_, m1, m2, m3, m4⟩
  have e' : sX2_run σ mo (nI q) (nI (R (82 + 5 * q))) (nI (R (83 + 5 * q))) 1 = some τ := e
  unfold sX2_runWithBoys
  rw [M_q2 h (by omega), M_q3 h (by omega), M_kd h.1, e', bp_s]
/-- why a draw can't be -/
def wySd (b m : Bool) : Int32 := if b then (if m then nI 0 else nI 2) else nI 1
theorem X_seed {b : Bool} {v u : Int32} (hx : sx.ob x = 5) (hb : sX1_isQuarrel sx x v = some (nI (b1 b))) : sX1_whySeed sx x v u = some (wySd b (isB u 65537)) := by
  unfold sX1_whySeed
  have e : (decide (0 ≤ u) && decide (u ≤ 65536)) = isB u 65537 := in_le (v := u) (n := 65536) (by decide)
  rw [kd_ob hx, hb, bp_s, kd_ob hx, X_why (m := isB u 65537) e, bp_s]
  rfl
/-- a draw's start at the model -/
theorem M_draw {b r : Bool} {v u : Int32} (hm : MS σ mo) (hb : sX2_isQuarrel σ mo v = some (nI (b1 b))) (hbad : (b && (isB u 65537 && r)) = false) : sX2_drawWhy σ mo v u (nI (b1 r)) = some (σ, wySd b (isB u 65537 && r)) := by
  unfold sX2_drawWhy
  have e : (decide (0 ≤ u) && decide (u ≤ 65536)) = isB u 65537 := in_le (v := u) (n := 65536) (by decide)
  have e2 : (if nI (b1 (isB u 65537)) = 0 then some 0 else if nI (b1 r) = 0 then some 0 else some 1) = some (nI (b1 (isB u 65537 && r))) := by
    cases isB u 65537 <;> cases r <;> rfl
  rw [M_kd hm, hb, bp_s, M_in, bp_s, e, e2, bp_s, M_kd hm, M_why, bp_s]
  cases b
  · rfl
  · rw [Bool.true_and] at hbad
    rw [hbad]
    rfl
theorem M_draw1 {v : Int32} {dr : Nat} (h : MC σ mo R S) (hw : WF R) (hb : sX2_isQuarrel σ mo v = some (nI (b1 true))) (hd : dr < 65537) : ∃ τ, sX2_drawWhy σ mo v (nI dr) 1 = some (τ, 0) ∧ Mq mo σ τ ∧ TRL τ mo R S 0 none ∧ BB τ mo (some none) dr := by
  obtain ⟨τ, e, m1, m2, m3⟩ := M_now h hw
  have e1 : (decide (0 ≤ nI dr) && decide (nI dr ≤ 65536)) = isB (nI dr) 65537 := in_le (v := nI dr) (n := 65536) (by decide)
  rw [isB_nI hd (by decide)] at e1
  have e2 : (if nI (b1 true) = 0 then some 0 else if (1 : Int32) = 0 then some 0 else some 1) = some (nI (b1 true)) := rfl
  have e3 : sX2_why σ mo (nI (b1 true)) (nI (b1 true)) = some 0 := M_why σ true true
  refine ⟨(τ.sI 39 mo (-1)).sI 40 mo (nI dr), ?_, (m1.sI rfl).sI rfl, m3, ⟨(fi_ne (by decide)).trans fi_eq, fi_eq, hd⟩⟩
  unfold sX2_drawWhy
  rw [M_kd h.1, hb, bp_s, M_in, bp_s, e1, e2, bp_s, M_kd h.1, e3, bp_s, if_pos rfl, M_kd h.1, e, bp_s, M_p39 m2.1, M_p40 (show MS (τ.sI 39 mo _) mo from m2.1)]
theorem op_seed {K1 : St → Option (St × Int32)} {K2 : St → Option (St × Int32)} (h : RL x mo sx sm) (v u : Int32) (hk : ∀ w R S q dr s1 s2, CT x mo sx (gd sm mo) sm w R S → q < R 5 → v = nI q → dr < 65537 → IQ x mo w sx (gd sm mo) s1 s2 → s1.fi 11 x = nI dr → TRL s2 mo R S 0 none → BB s2 mo (some none) dr → W2 (K1 s1) (K2 s2) (Op x mo sx sm)) : W2 (kd sx x 5 <| bp (sX1_whySeed sx x v u) fun v2 => if v2 ≤ 0 then (pI sx 11 (some x) u fun s4 => K1 s4) else (kd sx x 5 <| bd (sX1_refused sx x v2) fun s14 v15 => some (s14, v15))) (kd sm mo 7 <| bp (sX2_good sm mo) fun s2 => kd s2 mo 7 <| bd (sX2_drawWhy s2 mo v u 1) fun s5 v6 => if v6 = 0 then K2 s5 else (kd s5 mo 7 <| bd (sX2_no s5 mo v6) fun s13 v14 => some (s13, v14))) (Op x mo sx sm) := by
  obtain ⟨b, g1, g2, g3⟩ := h.isQ v
  dsimp only at g2
  have hm := gd_ms h.1.2.1
  rw [kd_ob h.1.1.1, X_seed h.1.1.1 g1, bp_s, M_kd h.1.2.1, M_good h.1.2.1, bp_s, M_kd hm]
  have l1 : (1 : Int32) = nI (b1 true) := rfl
  cases hb : (b && (isB u 65537 && true))
  · rw [show sX2_drawWhy (gd sm mo) mo v u 1 = _ from M_draw (r := true) hm g2 hb, bd_s, Bool.and_true]
    rw [Bool.and_true] at hb
    cases b
    · exact fin_ref h (nI 1) (by decide)
    · rw [Bool.true_and] at hb
      rw [hb]
      exact fin_ref h (nI 2) (by decide)
  · rw [Bool.and_true, Bool.and_eq_true] at hb
    obtain ⟨rfl, hb2⟩ := hb
    obtain ⟨w, R, S, q, hC, hq, rfl⟩ := g3 rfl
    obtain ⟨dr, hd, rfl⟩ := isB_t (by decide) hb2
    obtain ⟨τ, e, m1, m2, m3⟩ := M_draw1 hC.mc hC.qc.wf g2 hd
    rw [hb2, show wySd true true = nI 0 from rfl, if_pos (show nI 0 ≤ 0 by decide), p11_5 h.1.1.1 h.1.1.2.1, e, bd_s, if_pos rfl]
    exact hk w R S q dr _ τ hC hq rfl hd ⟨(Xq.rf ..).sx (by decide) (by decide), m1, hC.fl.sI (by decide) (by decide) (by decide)⟩ fi_eq m2 m3
theorem OP_endsBy (h : RL x mo sx sm) (v u : Int32) : W2 (sX1_endsBy sx x v u) (sX2_endsBy sm mo v u) (Op x mo sx sm) := by
  unfold sX1_endsBy sX2_endsBy
  refine op_seed h v u ?_
  intro w R S q dr s1 s2 hC hq e hd hI h11 ht hB
  subst e
  have bq := hC.qc.xq hI.1
  have bm := hC.mc.mq hI.2.1
  obtain ⟨t1, e1, x1, f1, a1, -⟩ := X_by bq hI.2.2 h11 hd hq
  obtain ⟨t2, e2, y1, y2, y3, y4⟩ := M_by bm ht bq.wf bq.tb hB hq
  rw [bq.xd.k5, e1, bd_s, M_kd bm.1, e2, bp_s, M_g34 y2.1, y4.1]
  exact fin_wellI hC ⟨hI.1.tr' x1, hI.2.1.tr y1, f1⟩ rfl
theorem OP_endsByAt (h : RL x mo sx sm) (v u : Int32) : W2 (sX1_endsByAt sx x v u) (sX2_endsByAt sm mo v u) (Op x mo sx sm) := by
  unfold sX1_endsByAt sX2_endsByAt
  refine op_seed h v u ?_
  intro w R S q dr s1 s2 hC hq e hd hI h11 ht hB
  subst e
  have bq := hC.qc.xq hI.1
  have bm := hC.mc.mq hI.2.1
  obtain ⟨t1, e1, x1, f1, a1, -⟩ := X_by bq hI.2.2 h11 hd hq
  obtain ⟨t2, e2, y1, y2, y3, y4⟩ := M_by bm ht bq.wf bq.tb hB hq
  rw [bq.xd.k5, e1, bd_s, g7_5 (bq.xq x1).xd.1.1, a1, M_kd bm.1, e2, bp_s, M_g35 y2.1, y4.2.1]
  exact fin_wellI hC ⟨hI.1.tr' x1, hI.2.1.tr y1, f1⟩ rfl
theorem OP_wins (h : RL x mo sx sm) (v u n : Int32) : W2 (sX1_wins sx x v u n) (sX2_wins sm mo v u n) (Op x mo sx sm) := by
  unfold sX1_wins sX2_wins
  obtain ⟨b, g1, g2, g3⟩ := h.isQ v
  dsimp only at g2
  have hm := gd_ms h.1.2.1
  have e30 : (decide (0 ≤ n) && decide (n ≤ 30)) = isB n 31 := in_le (v := n) (n := 30) (by decide)
  have hw1 : sX1_why sx x 1 n 0 30 = some (if isB n 31 then nI 0 else nI 2) := X_why (b := true) e30
  rw [kd_ob h.1.1.1, X_seed h.1.1.1 g1, bp_s, M_kd h.1.2.1, M_good h.1.2.1, bp_s, M_in, bp_s, e30, M_kd hm, kd_ob h.1.1.1, hw1, bp_s]
  have ew : (if wySd b (isB u 65537) = 0 then some (if isB n 31 then nI 0 else nI 2) else some (wySd b (isB u 65537))) = some (wySd b (isB u 65537 && isB n 31)) := by
    cases b <;> cases isB u 65537 <;> cases isB n 31 <;> rfl
  rw [ew, bp_s]
  cases hb : (b && (isB u 65537 && isB n 31))
  · rw [M_draw hm g2 hb, bd_s]
    cases b
    · exact fin_ref h (nI 1) (by decide)
    · rw [Bool.true_and] at hb
      rw [hb]
      exact fin_ref h (nI 2) (by decide)
  · rw [Bool.and_eq_true, Bool.and_eq_true] at hb
    obtain ⟨rfl, hb2, hb3⟩ := hb
    obtain ⟨w, R, S, q, hC, hq, rfl⟩ := g3 rfl
    obtain ⟨dr, hd, rfl⟩ := isB_t (by decide) hb2
    obtain ⟨N, hN, rfl⟩ := isB_t (by decide) hb3
    obtain ⟨τ, e, m1, m2, m3⟩ := M_draw1 hC.mc hC.qc.wf g2 hd
    have e' : sX2_drawWhy (gd sm mo) mo (nI q) (nI dr) (nI (b1 true)) = some (τ, 0) := e
    rw [hb2, hb3, Bool.and_true, show wySd true true = nI 0 from rfl, if_pos (show nI 0 ≤ 0 by decide), p11_5 h.1.1.1 h.1.1.2.1, e', bd_s, if_pos rfl]
    refine W2_b2 (P := fun a b => IQ x mo w sx (gd sm mo) a.1 b.1 ∧ a.2 = b.2) (W2_loop (fun n (b : St × Int32) k => sX1_wins_L47 x (nI q) (nI N) n b.1 b.2 (nI k)) (fun n (b : St × Int32) k => sX2_wins_L37 mo (nI q) (nI N) n b.1 b.2 (nI k)) N (fun _ a b => IQ x mo w sx (gd sm mo) a.1 b.1 ∧ a.2 = b.2 ∧ TRL b.1 mo R S 0 none ∧ ∃ dr, dr < 65537 ∧ a.1.fi 11 x = nI dr ∧ BB b.1 mo (some none) dr) (by omega) (fun n m k b c hk hi hs => ?_) 0 (Nat.zero_le _) (sx.sI 11 x (nI dr), 0) (τ, 0) ⟨⟨(Xq.rf ..).sx (by decide) (by decide), m1, hC.fl.sI (by decide) (by decide) (by decide)⟩, rfl, m2, dr, hd, fi_eq, m3⟩) (fun a c b d hP => fin_wellI hC hP.1 hP.2)
    obtain ⟨b, u⟩ := b
    obtain ⟨c, u'⟩ := c
    obtain ⟨hI, i4, i5, dr, i6, i7, i8⟩ := hi
    dsimp only at hI i4 i5 i7 i8 hs ⊢
    subst i4
    rw [sX1_wins_L47, sX2_wins_L37]
    by_cases hkk : k = N
    · rw [if_pos (nI_le (by omega) (by omega)), if_pos (nI_le (by omega) (by omega))]
      exact W2_ret ⟨hI, rfl⟩
    · have hk' : k < N := by omega
      have bq := hC.qc.xq hI.1
      have bm := hC.mc.mq hI.2.1
      obtain ⟨t1, e1, x1, f1, a1, a2, a3⟩ := X_by bq hI.2.2 i7 i6 hq
      obtain ⟨t2, e2, y1, y2, y3, y4⟩ := M_by bm i5 bq.wf bq.tb i8 hq
      rw [if_neg (nI_ge (by omega) (by omega)), if_neg (nI_ge (by omega) (by omega)), bq.xd.k5, e1, bd_s, M_kd bm.1, e2, bp_s, M_g34 y2.1, y4.1, nI_1]
      unfold sX1_isWon
      have hI2 : IQ x mo w sx (gd sm mo) t1 t2 := ⟨hI.1.tr' x1, hI.2.1.tr y1, f1⟩
      split
      · exact hs hk' (t1, _) (t2, _) ⟨hI2, rfl, y3, _, a3, a2, y4.2.2.2.2.2⟩
      · exact hs hk' (t1, _) (t2, _) ⟨hI2, rfl, y3, _, a3, a2, y4.2.2.2.2.2⟩
end
