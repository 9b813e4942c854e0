/-! QUERIES: brawls and runs -/
set_option maxRecDepth 100000
/-- how a quarrel goes on a row, at a place, from a minute on -/
def BO (R S : Nat → Nat) (pl : Option Nat) (oth q p fr : Nat) (B : Option (Option Nat)) (dr : Nat) : RO := runS (freshS R S q p) (eyesS R (eyP R pl)) ((witS R oth (R (80 + 5 * q)) : Nat) - (witS R oth (R (81 + 5 * q)) : Nat)) (R (84 + 5 * q)) B (R 0) fr (60 - fr) fr 0 0 0 0 dr
def TO (R S : Nat → Nat) (pl : Option Nat) (oth q : Nat) (B : Option (Option Nat)) (dr : Nat) : RO := BO R S pl oth q (R (82 + 5 * q)) (R (83 + 5 * q)) B dr
section
variable {x mo : Nat} {σ sx s0 sm : St} {w : Nat → Nat → Nat} {R S T : Nat → Nat} {pl : Option Nat} {oth : Nat}
theorem X_br {s : Nat} {B : Bool} {q p fr dr : Nat} (h : QC σ x w R S) (hs : SH σ s (w 0 0)) (hc : SC σ s T) (hb : TB T) (hf : FL σ x pl oth B) (hpm : ∀ q, pl = some q → q < 6) (ho6 : oth < 2147483648) (hdr : B = true → σ.fi 11 x = nI dr ∧ dr < 65537) (hq : q < R 5) (hp : p < 6) (h60 : fr < 60) : ∃ τ, sX1_brawls σ x (some s) (nI q) (nI p) (nI fr) = some (τ, zI (BO R T pl oth q p fr (bB B) dr).en) ∧ Xq x (w 0 2) σ τ ∧ QC τ x w R S ∧ SC τ s T ∧ FL τ x pl oth B ∧ XF τ x R B (BO R T pl oth q p fr (bB B) dr) := by
  obtain ⟨τ, e, m, hx⟩ := X_brawls h.xd h.xt h.wf hs hc hb hf.1 hpm hf.2.1 ho6 B hf.2.2 hdr hq hp h60 (O := BO R T pl oth q p fr (bB B) dr) rfl
  have hx' := m.xq x (w 0 2) cX_q
  exact ⟨τ, e, hx', h.xq hx', m.sc cX_hi hc, m.fl hf, hx⟩
theorem X_on {s : Nat} {B : Bool} {q dr : Nat} (h : QC σ x w R S) (hs : SH σ s (w 0 0)) (hc : SC σ s T) (hb : TB T) (hf : FL σ x pl oth B) (hpm : ∀ q, pl = some q → q < 6) (ho6 : oth < 2147483648) (hdr : B = true → σ.fi 11 x = nI dr ∧ dr < 65537) (hq : q < R 5) : ∃ τ, sX1_brawlsOn σ x (some s) (nI q) = some (τ, zI (TO R T pl oth q (bB B) dr).en) ∧ Xq x (w 0 2) σ τ ∧ QC τ x w R S ∧ SC τ s T ∧ FL τ x pl oth B ∧ XF τ x R B (TO R T pl oth q (bB B) dr) := by
  have hw := h.wf
  obtain ⟨w0, w1, w2, w3, w4, w5, w6, w7, w8, w9, w10, w11, w12, w13⟩ := id hw
  obtain ⟨u1, u2, u3, u4, u5, u6, u7⟩ := w11 q hq
  obtain ⟨τ, e, h1⟩ := X_br (p := R (82 + 5 * q)) (fr := R (83 + 5 * q)) h hs hc hb hf hpm ho6 hdr hq (by omega) (by omega)
  refine ⟨τ, ?_, h1⟩
  unfold sX1_brawlsOn
  rw [h.xd.r1001, h.xt.i10, h.xt.qg hw hq, bp_s, h.xt.q73 hq, h.xd.r1001, h.xt.i10, h.xt.qg hw hq, bp_s, h.xt.q74 hq, h.xd.k5, e, bd_s]
  rfl
theorem X_now {B : Bool} {q dr : Nat} (h : QC σ x w R S) (hf : FL σ x pl oth B) (hpm : ∀ q, pl = some q → q < 6) (ho6 : oth < 2147483648) (hdr : B = true → σ.fi 11 x = nI dr ∧ dr < 65537) (hq : q < R 5) : ∃ τ, sX1_brawlsNow σ x (nI q) = some (τ, zI (TO R S pl oth q (bB B) dr).en) ∧ Xq x (w 0 2) σ τ ∧ QC τ x w R S ∧ FL τ x pl oth B ∧ XF τ x R B (TO R S pl oth q (bB B) dr) := by
  obtain ⟨τ, e, h1, h2, -, h4⟩ := X_on h h.xd.s1 h.sc h.tb hf hpm ho6 hdr hq
  refine ⟨τ, ?_, h1, h2, h4⟩
  unfold sX1_brawlsNow
  rw [h.xd.r1002, h.xd.k5, e, bd_s]
theorem M_rn {B : Option (Option Nat)} {q p fr dr : Nat} (h : MC σ mo R S) (ht : TRL σ mo R T oth pl) (hw : WF R) (hb : TB T) (hB : BB σ mo B dr) (hq : q < R 5) (hp : p < 6) (h60 : fr < 60) : ∃ τ, sX2_run σ mo (nI q) (nI p) (nI fr) (nI (b1 B.isSome)) = some τ ∧ Mq mo σ τ ∧ MC τ mo R S ∧ TRL τ mo R T oth pl ∧ RF τ mo B (BO R T pl oth q p fr B dr) ∧ Mf c6 σ τ := by
  obtain ⟨τ, e, m, hr⟩ := M_run h.1 h.2.1 ht.1 ht.2 hw hb (fun m hm => witS_le hw oth hm) (eyP_le R pl) hq hp h60 B hB
  have hq := m.mq mo (fun F hF => by
    simp only [scr, c6, List.contains_iff_mem] at *
    simp at hF ⊢
    omega)
  exact ⟨τ, e, hq, h.mq hq, ⟨m.ar ht.1, m.tt ht.2⟩, hr, m⟩
theorem M_told {q : Nat} (h : MC σ mo R S) (ht : TRL σ mo R T oth pl) (hw : WF R) (hb : TB T) (hq : q < R 5) : ∃ τ, sX2_runTold σ mo (nI q) = some τ ∧ Mq mo σ τ ∧ MC τ mo R S ∧ TRL τ mo R T oth pl ∧ RF τ mo none (TO R T pl oth q none 0) ∧ Mf c6 σ τ := by
  obtain ⟨τ, e, m, hr⟩ := M_runTold h.1 h.2.1 ht.1 ht.2 hw hb (fun m hm => witS_le hw oth hm) (eyP_le R pl) hq
  have hq := m.mq mo (fun F hF => by
    simp only [scr, c6, List.contains_iff_mem] at *
    simp at hF ⊢
    omega)
  exact ⟨τ, e, hq, h.mq hq, ⟨m.ar ht.1, m.tt ht.2⟩, hr, m⟩
theorem b1t : ¬ nI (b1 true) = 0 := by decide
theorem b1f : nI (b1 false) = 0 := by decide
theorem M_over {k : Nat} (h : MC σ mo R S) (hw : WF R) (hb : TB S) (hk : k < R 5) : ∃ τ, sX2_goOver σ mo (nI k) = some (τ, 1) ∧ Mq mo σ τ ∧ MC τ mo R S ∧ RF τ mo none (TO R S none 0 k none 0) := by
  have hgo : sX2_isQuarrel σ mo (nI k) = some (nI (b1 true)) := by
    have := M_is h.1 h.2.1 h.2.2.2 (c := 5) (by decide) hw.r5 (nI k)
    rw [isB_nI hk hw.r5] at this
    exact this
  obtain ⟨τ, e, m1, m2, m3⟩ := M_now h hw
  obtain ⟨υ, e', n1, n2, n3, n4, -⟩ := M_told m2 m3 hw hb hk
  refine ⟨υ, ?_, m1.tr n1, n2, n4⟩
  unfold sX2_goOver
  rw [M_kd h.1, hgo, bp_s, if_neg b1t, M_kd h.1, e, bp_s, M_kd m2.1, e', bp_s]
/-- operations that go over a quarrel as it is told -/
theorem op_over {K1 : St → Int32 → Option (St × Int32)} {K2 : St → Option (St × Int32)} (h : RL x mo sx sm) (v : Int32) (hk : ∀ w R S k s1 s2, CT x mo sx (gd sm mo) sm w R S → k < R 5 → Xq x (w 0 2) sx s1 → Mq mo (gd sm mo) s2 → QC s1 x w R S → MC s2 mo R S → FL s1 x none 0 false → XF s1 x R false (TO R S none 0 k none 0) → RF s2 mo none (TO R S none 0 k none 0) → W2 (K1 s1 (zI (TO R S none 0 k none 0).en)) (K2 s2) (Op x mo sx sm)) : W2 (kd sx x 5 <| bp (sX1_isQuarrel sx x v) fun v2 => if v2 = 0 then (kd sx x 5 <| bd (sX1_refused sx x 1) fun s5 v6 => some (s5, v6)) else (kd sx x 5 <| bd (sX1_brawlsNow sx x v) K1)) (kd sm mo 7 <| bp (sX2_good sm mo) fun s2 => kd s2 mo 7 <| bd (sX2_goOver s2 mo v) fun s5 v6 => if v6 = 0 then (kd s5 mo 7 <| bd (sX2_no s5 mo 1) fun s9 v10 => some (s9, v10)) else K2 s5) (Op x mo sx sm) := by
  obtain ⟨b, g1, g2, g3⟩ := h.isQ v
  dsimp only at g2
  have hm := gd_ms h.1.2.1
  unfold sX2_goOver
  rw [kd_ob h.1.1.1, g1, bp_s, M_kd h.1.2.1, M_good h.1.2.1, bp_s, M_kd hm, M_kd hm, g2, bp_s]
  cases b
  · rw [if_pos (by decide), if_pos (by decide), bd_s, if_pos (by decide)]
    exact fin_ref h 1 (by decide)
  · rw [if_neg (by decide), if_neg (by decide)]
    obtain ⟨w, R, S, k, hC, hk', rfl⟩ := g3 rfl
    obtain ⟨τ, e, m1, m2, m3⟩ := hC.now
    obtain ⟨υ, e', n1, n2, n3, n4, -⟩ := M_told m2 m3 hC.qc.wf hC.qc.tb hk'
    obtain ⟨s1, e1, x1, x2, x3, x4⟩ := X_now (dr := 0) hC.qc hC.fl np (by decide) (fun q => by cases q) hk'
    rw [kd_ob h.1.1.1, e1, bd_s, M_kd hm, e, bp_s, M_kd m2.1, e', bp_s, bd_s, if_neg (by decide)]
    exact hk w R S k s1 υ hC hk' x1 (m1.tr n1) x2 n2 x3 x4 n4
theorem OP_ends (h : RL x mo sx sm) (v : Int32) : W2 (sX1_ends sx x v) (sX2_ends sm mo v) (Op x mo sx sm) := by
  unfold sX1_ends sX2_ends
  refine op_over h v ?_
  intro w R S k s1 s2 hC hk hx hm hq hmc hf hX hR
  rw [M_g34 hmc.1, hR.1]
  exact fin_well hC hx hm hf rfl
theorem OP_endsAt (h : RL x mo sx sm) (v : Int32) : W2 (sX1_endsAt sx x v) (sX2_endsAt sm mo v) (Op x mo sx sm) := by
  unfold sX1_endsAt sX2_endsAt
  refine op_over h v ?_
  intro w R S k s1 s2 hC hk hx hm hq hmc hf hX hR
  rw [M_g35 hmc.1, hR.2.1, g7_5 hq.xd.1.1, hX.1]
  exact fin_well hC hx hm hf rfl
theorem OP_lead (h : RL x mo sx sm) (v : Int32) : W2 (sX1_lead sx x v) (sX2_lead sm mo v) (Op x mo sx sm) := by
  unfold sX1_lead sX2_lead
  refine op_over h v ?_
  intro w R S k s1 s2 hC hk hx hm hq hmc hf hX hR
  rw [M_g36 hmc.1, hR.2.2.1, g8_5 hq.xd.1.1, hX.2.1]
  exact fin_well hC hx hm hf (Int32.add_comm ..)
theorem OP_seen (h : RL x mo sx sm) (v : Int32) : W2 (sX1_seen sx x v) (sX2_seen sm mo v) (Op x mo sx sm) := by
  unfold sX1_seen sX2_seen
  refine op_over h v ?_
  intro w R S k s1 s2 hC hk hx hm hq hmc hf hX hR
  rw [M_g37 hmc.1, hR.2.2.2.1, g9_5 hq.xd.1.1, hX.2.2.1]
  exact fin_well hC hx hm hf rfl
theorem runS_rg (V ey : Nat → Nat) (g : Int) (nd : Nat) (B : Option (Option Nat)) (r0 fr : Nat) : ∀ d t ld sn ah bo dr, t + d = 60 → (∀ u, V u < 64) → sn < 64 → ah < 64 → (-2 ≤ (runS V ey g nd B r0 fr d t ld sn ah bo dr).en ∧ (runS V ey g nd B r0 fr d t ld sn ah bo dr).en ≤ 2) ∧ (runS V ey g nd B r0 fr d t ld sn ah bo dr).sn < 64 ∧ (runS V ey g nd B r0 fr d t ld sn ah bo dr).ah < 64 ∧ -2 ≤ (runS V ey g nd B r0 fr d t ld sn ah bo dr).at' ∧ (runS V ey g nd B r0 fr d t ld sn ah bo dr).at' < 60 ∧ ((runS V ey g nd B r0 fr d t ld sn ah bo dr).en ≠ -2 → (t : Int) ≤ (runS V ey g nd B r0 fr d t ld sn ah bo dr).at') := by
  intro d
  induction d with
  | zero =>
    intro t ld sn ah bo dr ht hV hs ha
    exact ⟨⟨by show (-2 : Int) ≤ -2; omega, by show (-2 : Int) ≤ 2; omega⟩, hs, ha, by show (-2 : Int) ≤ -2; omega, by show (-2 : Int) < 60; omega, fun q => absurd rfl q⟩
  | succ d ih =>
    intro t ld sn ah bo dr ht hV hs ha
    have hn : sn ||| V t < 64 := Nat.or_lt_two_pow (n := 6) hs (hV t)
    rw [runS]
    split
    · split
      · refine ⟨⟨?_, ?_⟩, hn, hs, ?_, ?_, fun _ => ?_⟩
        · show (-2 : Int) ≤ if ld + g ≤ 0 then 2 else 1
          split <;> omega
        · show (if ld + g ≤ 0 then (2 : Int) else 1) ≤ 2
          split <;> omega
        · show (-2 : Int) ≤ (t : Int); omega
        · show (t : Int) < 60; omega
        · show (t : Int) ≤ (t : Int); omega
      · have := ih (t + 1) (ld + g) (sn ||| V t) sn (bo + (cmS B r0 (t - fr) dr).1) (cmS B r0 (t - fr) dr).2 (by omega) hV hn hs
        exact ⟨this.1, this.2.1, this.2.2.1, this.2.2.2.1, this.2.2.2.2.1, fun q => by have := this.2.2.2.2.2 q; omega⟩
    · exact ⟨⟨by show (-2 : Int) ≤ 0; omega, by show (0 : Int) ≤ 2; omega⟩, hn, hs, by show (-2 : Int) ≤ (t : Int); omega, by show (t : Int) < 60; omega, fun _ => by show (t : Int) ≤ (t : Int); omega⟩
theorem watchS_lt {R T : Nat → Nat} (hw : WF R) (p t : Nat) : watchS R T p t < 64 := by
  have h6 := hw.2.2.2.2.1
  refine itN_inv (K := R 3) (fun k b => b < 64) (fun k b hk hb => ?_) (R 3) 0 _ (by omega) (by decide)
  refine Nat.or_lt_two_pow (n := 6) hb ?_
  have := pow_le_of (a := k) (n := 6) (by omega)
  unfold b1
  split <;> omega
theorem BO_rg (hw : WF R) {q p fr : Nat} {B : Option (Option Nat)} {dr : Nat} (h60 : fr < 60) : (-2 ≤ (BO R T pl oth q p fr B dr).en ∧ (BO R T pl oth q p fr B dr).en ≤ 2) ∧ (BO R T pl oth q p fr B dr).sn < 64 ∧ (BO R T pl oth q p fr B dr).ah < 64 ∧ -2 ≤ (BO R T pl oth q p fr B dr).at' ∧ (BO R T pl oth q p fr B dr).at' < 60 ∧ ((BO R T pl oth q p fr B dr).en ≠ -2 → (fr : Int) ≤ (BO R T pl oth q p fr B dr).at') :=
  runS_rg _ _ _ _ _ _ _ _ _ _ _ _ _ _ (by omega) (fun u => Nat.lt_of_le_of_lt Nat.and_le_left (watchS_lt hw p u)) (by decide) (by decide)
theorem TO_rg (hw : WF R) {q : Nat} (hq : q < R 5) {B : Option (Option Nat)} {dr : Nat} : (-2 ≤ (TO R T pl oth q B dr).en ∧ (TO R T pl oth q B dr).en ≤ 2) ∧ (TO R T pl oth q B dr).sn < 64 ∧ (TO R T pl oth q B dr).ah < 64 ∧ -2 ≤ (TO R T pl oth q B dr).at' ∧ (TO R T pl oth q B dr).at' < 60 ∧ ((TO R T pl oth q B dr).en ≠ -2 → (R (83 + 5 * q) : Int) ≤ (TO R T pl oth q B dr).at') :=
  BO_rg hw (by have := (hw.2.2.2.2.2.2.2.2.2.2.2.1 q hq).2.2.2.2.1; omega)
theorem en_0 {z : Int} (h1 : -2 ≤ z) (h2 : z ≤ 2) : (zI z = 0) = (z = 0) := zI_eq (b := 0) (by omega) (by omega) (by omega) (by omega)
theorem and_M {a b : Nat} (ha : a < 64) : nI a &&& (nI b ^^^ -1) = nI (a &&& (b ^^^ 4294967295)) := by
  rw [show (-1 : Int32) = nI 4294967295 from rfl, nI_xor, nI_and]
theorem OP_third (h : RL x mo sx sm) (v : Int32) : W2 (sX1_third sx x v) (sX2_third sm mo v) (Op x mo sx sm) := by
  unfold sX1_third sX2_third
  refine op_over h v ?_
  intro w R S k s1 s2 hC hk hx hm hq hmc hf hX hR
  have hw := hq.wf
  have h6 := hw.2.2.2.2.1
  rw [g10_5 hq.xd.1.1, hX.2.2.2.1]
  have hrg := TO_rg (T := S) (pl := none) (oth := 0) (B := none) (dr := 0) hw hk
  generalize TO R S none 0 k none 0 = O at hX hR hrg
  have hl := Wp_loop (fun n (_ : Unit) k => sX2_third_L20 s2 mo n (nI k)) (R 3) (fun k _ => thirdS R O = if O.en = 0 then lowF (O.sn &&& (O.ah ^^^ 4294967295)) k (R 3 - k) else -2) (Q := fun v => v = .inl (s2, zI (thirdS R O)) ∨ (v = .inr () ∧ thirdS R O = -2)) (by omega) (fun n k _ hk hi hs => by
    rw [sX2_third_L20, M_r1011 hmc.1, show (3 : Int32) = nI 3 from rfl, M_l3 hmc.1 (by decide), hmc.2.1 3 (by decide)]
    by_cases hkk : k = R 3
    · rw [if_pos (nI_le (by omega) (by omega))]
      refine ⟨_, rfl, Or.inr ⟨rfl, ?_⟩⟩
      rw [hi, hkk, Nat.sub_self]
      split <;> rfl
    · rw [if_neg (nI_ge (by omega) (by omega)), M_g34 hmc.1, hR.1, iteP (en_0 hrg.1.1 hrg.1.2)]
      by_cases h0 : O.en = 0
      · rw [if_pos h0] at hi ⊢
        have hlt : O.sn &&& (O.ah ^^^ 4294967295) < 64 := Nat.lt_of_le_of_lt Nat.and_le_left hrg.2.1
        rw [M_g37 hmc.1, M_g38 hmc.1, hR.2.2.2.1, hR.2.2.2.2.1, and_M hrg.2.1, M_hasBit (by omega) (by omega), bp_s]
        rw [show R 3 - k = (R 3 - (k + 1)) + 1 by omega, lowF] at hi
        cases hb : (O.sn &&& (O.ah ^^^ 4294967295)).testBit k
        · rw [hb] at hi
          rw [if_pos (by decide), nI_1]
          exact hs (by omega) () (by rw [if_pos h0]; exact hi)
        · rw [hb, if_pos rfl] at hi
          rw [if_neg (by decide)]
          exact ⟨_, rfl, Or.inl (by rw [hi, nI_z])⟩
      · rw [if_neg h0] at hi ⊢
        exact ⟨_, rfl, Or.inr ⟨rfl, hi⟩⟩) 0 (Nat.zero_le _) () rfl
  obtain ⟨u, e, hu⟩ := hl
  have e' : sX2_third_L20 s2 mo FU 0 = some u := e
  rw [e']
  rcases hu with rfl | ⟨rfl, hu⟩
  · rw [lc_l]
    exact fin_well hC hx hm hf rfl
  · rw [lc_r]
    exact fin_well hC hx hm hf (by rw [hu]; rfl)
theorem OP_won (h : RL x mo sx sm) : W2 (sX1_won sx x) (sX2_won sm mo) (Op x mo sx sm) := by
  unfold sX1_won sX2_won
  refine op_town h ?_
  intro w R S hC
  have hw := hC.qc.wf
  have h5 := hw.2.2.2.2.2.2.1
  refine W2_b2 (P := fun a b => Xq x (w 0 2) sx a.1 ∧ Mq mo (gd sm mo) b.1 ∧ FL a.1 x none 0 false ∧ a.2 = b.2) (W2_loop (fun n (b : St × Int32) k => sX1_won_L17 x n b.1 b.2 (nI k)) (fun n (b : St × Int32) k => sX2_won_L21 mo n b.1 b.2 (nI k)) (R 5) (fun _ a b => Xq x (w 0 2) sx a.1 ∧ Mq mo (gd sm mo) b.1 ∧ FL a.1 x none 0 false ∧ a.2 = b.2) (by omega) (fun n m k b c hk hi hs => ?_) 0 (Nat.zero_le _) (sx, 0) (gd sm mo, 0) ⟨Xq.rf .., Mq.rf .., hC.fl, rfl⟩) (fun a c b d hP => fin_well hC hP.1 hP.2.1 hP.2.2.1 hP.2.2.2)
  obtain ⟨b, u⟩ := b
  obtain ⟨c, u'⟩ := c
  obtain ⟨i1, i2, i3, i4⟩ := hi
  dsimp only at i1 i2 i3 i4 hs ⊢
  subst i4
  have hq := hC.qc.xq i1
  have hmc := hC.mc.mq i2
  rw [sX1_won_L17, sX2_won_L21, hq.xd.k5, X_quarrels hq.xd hq.xt, bp_s, M_r1011 hmc.1, show (5 : Int32) = nI 5 from rfl, M_l3 hmc.1 (by decide), hmc.2.1 5 (by decide)]
  by_cases hkk : k = R 5
  · rw [if_pos (nI_le (by omega) (by omega)), if_pos (nI_le (by omega) (by omega))]
    exact W2_ret ⟨i1, i2, i3, rfl⟩
  · have hk' : k < R 5 := by omega
    obtain ⟨υ, e', n1, n2, n4⟩ := M_over hmc hw hq.tb hk'
    obtain ⟨s1, e1, x1, x2, x3, x4⟩ := X_now (dr := 0) hq i3 np (by decide) (fun q => by cases q) hk'
    rw [if_neg (nI_ge (by omega) (by omega)), if_neg (nI_ge (by omega) (by omega)), hq.xd.k5, e1, bd_s, M_kd hmc.1, e', bd_s, if_neg (show ¬ (1 : Int32) = 0 by decide), M_g34 n2.1, n4.1, nI_1]
    have hnx : Xq x (w 0 2) sx s1 := i1.tr' x1
    have hnm : Mq mo (gd sm mo) υ := i2.tr n1
    have eb : (TO R S none 0 k (bB false) 0) = (TO R S none 0 k none 0) := rfl
    rw [eb]
    split
    · exact hs hk' (s1, _) (υ, _) ⟨hnx, hnm, x3, rfl⟩
    · exact hs hk' (s1, _) (υ, _) ⟨hnx, hnm, x3, rfl⟩
end
