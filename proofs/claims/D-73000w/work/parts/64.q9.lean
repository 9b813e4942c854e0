/-! QUERIES: fits .. judge, three, says, rests, rest -/
set_option maxRecDepth 100000
section
variable {x mo : Nat} {σ sx s0 sm : St} {w : Nat → Nat → Nat} {R S T : Nat → Nat} {pl : Option Nat} {oth : Nat}
/-- a refusal behind some work -/
theorem fin_refI {s1 s2 : St} (h : CT x mo sx s0 sm w R S) (hi : IQ x mo w sx s0 s1 s2) (c : Int32) (hc : c ≠ 4) : W2 (kd s1 x 5 <| bd (sX1_refused s1 x c) fun s v => some (s, v)) (kd s2 mo 7 <| bd (sX2_no s2 mo c) fun s v => some (s, v)) (Op x mo sx sm) := by
  obtain ⟨hB, hT, h29, hnn, -⟩ := h
  obtain ⟨hx, hm, hf⟩ := hi
  have hd := hT.1.1
  have htr := hd.2.2.2.2.2.1
  have ho := hx.xo hd.1
  have hms := hm.ms hT.2.1.1
  have hne : x + 1 ≠ w 0 2 + 1 := fun e => by
    have e2 : x = w 0 2 := by omega
    have := htr.1
    rw [← e2, hd.1.1] at this
    exact absurd this (by decide)
  have hB2 := hB.q hx hm htr.2.1 hne
  have hT2 := hT.q hx hm
  have e29 : (s2.sI 29 mo c).fi 29 mo = c := fi_eq
  rw [kd_ob ho.1, X_refused ho.1 ho.2.1, bd_s, M_kd hms, M_no hms, bd_s]
  refine W2_ret ⟨rfl, ⟨hB2.f29.en', ⟨?_, ?_, ?_⟩, Or.inr ⟨w, R, S, hT2.f29.en'⟩⟩, ⟨?_, ?_⟩, hm.1.trans hnn⟩
  · rw [e29]; exact en_3
  · rw [e29, if_neg hc]; exact en_2
  · exact ⟨(en_fi (by decide) (by decide)).trans hf.1, (en_fi (by decide) (by decide)).trans hf.2.1, (en_fi (by decide) (by decide)).trans hf.2.2⟩
  · show sx.rc ≤ s1.rc + 18000
    simp only [St.rc, hx.1]; omega
  · show sx.rs ≤ s1.rs + 85000
    simp only [St.rs, hx.1]; omega
theorem OP_fits (h : RL x mo sx sm) : W2 (sX1_fits sx x) (sX2_fits sm mo) (Op x mo sx sm) := by
  unfold sX1_fits sX2_fits
  refine op_town h ?_
  intro w R S hC
  rw [hC.qc.xd.k5, M_kd hC.ms]
  refine W2_bd (W2_fit hC (-1)) (fun a c b d hP => ?_)
  obtain ⟨hI, hF, hf⟩ := hP
  rw [g13_5 (hC.qc.xq hI.1).xd.1.1, M_g41 (hC.mc.mq hI.2.1).1]
  exact fin_wellI hC hI hF.1
theorem OP_could (h : RL x mo sx sm) : W2 (sX1_could sx x) (sX2_could sm mo) (Op x mo sx sm) := by
  unfold sX1_could sX2_could
  refine op_town h ?_
  intro w R S hC
  rw [hC.qc.xd.k5, M_kd hC.ms]
  refine W2_bd (W2_fit hC (-1)) (fun a c b d hP => ?_)
  obtain ⟨hI, hF, hf⟩ := hP
  rw [g14_5 (hC.qc.xq hI.1).xd.1.1, M_g42 (hC.mc.mq hI.2.1).1]
  exact fin_wellI hC hI hF.2.1
theorem OP_surely (h : RL x mo sx sm) : W2 (sX1_surely sx x) (sX2_surely sm mo) (Op x mo sx sm) := by
  unfold sX1_surely sX2_surely
  refine op_town h ?_
  intro w R S hC
  rw [hC.qc.xd.k5, M_kd hC.ms]
  refine W2_bd (W2_fit hC (-1)) (fun a c b d hP => ?_)
  obtain ⟨hI, hF, hf⟩ := hP
  rw [g15_5 (hC.qc.xq hI.1).xd.1.1, M_g43 (hC.mc.mq hI.2.1).1]
  exact fin_wellI hC hI hF.2.2.1
theorem OP_fitAt (h : RL x mo sx sm) (p : Int32) : W2 (sX1_fitAt sx x p) (sX2_fitAt sm mo p) (Op x mo sx sm) := by
  unfold sX1_fitAt sX2_fitAt
  refine op_town h ?_
  intro w R S hC
  by_cases hp : 0 ≤ p
  · rw [if_pos hp, if_pos hp, hC.qc.xd.k5, M_kd hC.ms]
    refine W2_bd (W2_fit hC p) (fun a c b d hP => ?_)
    obtain ⟨hI, hF, hf⟩ := hP
    rcases hf with ⟨hc, hd⟩ | ⟨m, hm, hc, hd⟩
    · dsimp only at hc hd
      subst hc hd
      rw [if_pos rfl, if_neg (by decide)]
      exact fin_refI hC hI 1 (by decide)
    · dsimp only at hc hd
      subst hc hd
      have e : ¬ nI m = -2 := by
        rw [show (-2 : Int32) = zI (-2) from rfl, nI_ne_z (by omega) (by omega) (by omega)]
        exact id
      rw [if_neg e, if_pos (nI_pos' (by omega))]
      exact fin_wellI hC hI rfl
  · rw [if_neg hp, if_neg hp]
    exact fin_refI hC hC.iq0 1 (by decide)
theorem OP_judge (h : RL x mo sx sm) : W2 (sX1_judge sx x) (sX2_judge sm mo) (Op x mo sx sm) := by
  unfold sX1_judge sX2_judge
  refine op_town h ?_
  intro w R S hC
  obtain ⟨s1, e1, x1, f1, k1⟩ := X_wrong (u := 0) hC.qc hC.fl (by decide)
  obtain ⟨s2, e2, y1, k2⟩ := M_wrong (u := 0) hC.mc hC.qc.wf (by decide)
  have e1' : sX1_wrongEnd sx x 0 = _ := e1
  have e2' : sX2_wrongBy (gd sm mo) mo 0 = _ := e2
  rw [hC.qc.xd.k5, e1', bd_s, M_kd hC.ms, e2', bd_s]
  exact fin_well hC x1 y1 f1 rfl
/-- what asking leaves -/
def lvV (mo : Nat) (b : St) (j : Nat) : Int32 := if b.ai (mo + 11) j ≤ b.fi 41 mo - b.ai (mo + 11) j then b.fi 41 mo - b.ai (mo + 11) j else b.ai (mo + 11) j
theorem M_lv {j : Nat} (h : MS σ mo) (hj : j < 4) : sX2_leavesOf σ mo (nI j) = some (lvV mo σ j) := by
  unfold sX2_leavesOf lvV
  rw [M_r1019 h, M_l11 h hj, M_g41 h, M_r1019 h, M_l11 h hj, M_g41 h, M_r1019 h, M_l11 h hj]
  split
  · rfl
  · rw [M_r1019 h, M_l11 h hj]
theorem i32_le {a b : Int32} : (a ≤ b) = ¬ (b < a) := by rw [Int32.not_lt]
theorem mx_lv (a b : Int32) : mxI a b = if a ≤ b then b else a := by
  unfold mxI
  by_cases h : a < b
  · rw [if_pos h, if_pos (Int32.le_of_lt h)]
  · rw [if_neg h]
    by_cases h2 : a ≤ b
    · rw [if_pos h2]
      exact Int32.le_antisymm h2 (by rw [← Int32.not_lt]; exact h)
    · rw [if_neg h2]
theorem W2_ask (hC : CT x mo sx s0 sm w R S) : W2 (sX1_asks sx x) (sX2_askOf s0 mo) (fun a b => IQ x mo w sx s0 a.1 b.1 ∧ a.2 = b.2 ∧ ((b.2 = -2 ∧ a.1.fi 16 x = -2) ∨ ∃ j, j < 4 ∧ b.2 = nI j ∧ a.1.fi 16 x = lvV mo b.1 j)) := by
  have hw := hC.qc.wf
  have h7 := hw.2.2.2.2.2.2.2.1
  unfold sX1_asks sX2_askOf
  rw [hC.qc.xd.k5, M_kd hC.ms]
  refine W2_bd (W2_fit hC (-1)) (fun a c b d hP => ?_)
  obtain ⟨hI, hF, hf⟩ := hP
  dsimp only at hI hF
  have aq := hC.qc.xq hI.1
  have bm := hC.mc.mq hI.2.1
  rw [p16_5 aq.xd.1.1 aq.xd.1.2.1]
  have hx2 : Xq x (w 0 2) sx (a.sI 16 x (-2)) := hI.1.sx (by decide) (by decide)
  have hf2 : FL (a.sI 16 x (-2)) x none 0 false := hI.2.2.sI (by decide) (by decide) (by decide)
  have F2 : FS x mo (a.sI 16 x (-2)) b := ⟨(fi_ne (by decide)).trans hF.1, (fi_ne (by decide)).trans hF.2.1, (fi_ne (by decide)).trans hF.2.2.1, hF.2.2.2⟩
  have f16 : (a.sI 16 x (-2)).fi 16 x = -2 := fi_eq
  generalize a.sI 16 x (-2) = a2 at hx2 hf2 F2 f16
  obtain ⟨⟨u, v⟩, r, e1, e2, hu, hv, hr⟩ := W2_loop (fun n (b : St × Int32) k => sX1_asks_L17 x n b.1 b.2 (nI k)) (fun n (c : Int32) k => sX2_askOf_L11 b mo n c (nI k)) (R 7) (fun _ a c => (Xq x (w 0 2) sx a.1 ∧ FL a.1 x none 0 false ∧ FS x mo a.1 b) ∧ a.2 = c ∧ ((c = -2 ∧ a.1.fi 16 x = -2) ∨ ∃ j, j < 4 ∧ c = nI j ∧ a.1.fi 16 x = lvV mo b j)) (Q := fun a c => (Xq x (w 0 2) sx a.1 ∧ FL a.1 x none 0 false ∧ FS x mo a.1 b) ∧ a.2 = c ∧ ((c = -2 ∧ a.1.fi 16 x = -2) ∨ ∃ j, j < 4 ∧ c = nI j ∧ a.1.fi 16 x = lvV mo b j)) (by omega) (fun n m k a c hk hi hs => by
    obtain ⟨a, v⟩ := a
    obtain ⟨⟨i1, i2, i3⟩, i4, i5⟩ := hi
    dsimp only at i1 i2 i3 i4 i5 hs ⊢
    subst i4
    have aq := hC.qc.xq i1
    rw [sX1_asks_L17, sX2_askOf_L11, aq.xd.r1001, aq.xt.g52, M_n7 bm]
    by_cases hkk : k = R 7
    · rw [if_pos (nI_le (by omega) (by omega)), if_pos (nI_le (by omega) (by omega))]
      exact W2_ret ⟨⟨i1, i2, i3⟩, rfl, i5⟩
    · have hk' : k < R 7 := by omega
      rw [if_neg (nI_ge (by omega) (by omega)), if_neg (nI_ge (by omega) (by omega)), g13_5 aq.xd.1.1, i3.1, M_g41 bm.1]
      by_cases h0 : b.fi 41 mo ≤ 0
      · rw [if_pos h0, if_pos h0]
        exact W2_ret ⟨⟨i1, i2, i3⟩, rfl, i5⟩
      · have hl : mxI (a.ai (x + 4) k) (a.fi 13 x - a.ai (x + 4) k) = lvV mo b k := by
          rw [mx_lv, i3.1, i3.2.2.2 k (by omega)]
          rfl
        rw [if_neg h0, if_neg h0, aq.xd.1.r1006, aq.xd.1.l4 (by omega), g13_5 aq.xd.1.1, aq.xd.1.r1006, aq.xd.1.l4 (by omega), hl, M_kd bm.1, M_lv bm.1 (by omega), bp_s, nI_1]
        have hx3 : Xq x (w 0 2) sx (a.sI 16 x (lvV mo b k)) := i1.sx (by decide) (by decide)
        have hf3 : FL (a.sI 16 x (lvV mo b k)) x none 0 false := i2.sI (by decide) (by decide) (by decide)
        have F3 : FS x mo (a.sI 16 x (lvV mo b k)) b := ⟨(fi_ne (by decide)).trans i3.1, (fi_ne (by decide)).trans i3.2.1, (fi_ne (by decide)).trans i3.2.2.1, i3.2.2.2⟩
        rcases i5 with ⟨rfl, i6⟩ | ⟨j, hj, rfl, i6⟩
        · rw [if_pos rfl, p16_5 aq.xd.1.1 aq.xd.1.2.1, b2_s, if_pos (by decide), bp_s]
          exact hs hk' (_, _) _ ⟨⟨hx3, hf3, F3⟩, rfl, Or.inr ⟨k, by omega, rfl, fi_eq⟩⟩
        · have e : ¬ nI j = -2 := by
            rw [show (-2 : Int32) = zI (-2) from rfl, nI_ne_z (by omega) (by omega) (by omega)]
            exact id
          rw [if_neg e, g16_5 aq.xd.1.1, i6, if_neg (nI_pos (by omega)), M_kd bm.1, M_lv bm.1 hj, bp_s]
          by_cases hc : lvV mo b k < lvV mo b j
          · rw [if_pos hc, p16_5 aq.xd.1.1 aq.xd.1.2.1, b2_s, if_neg (by rw [Int32.not_le]; exact hc), bp_s]
            exact hs hk' (_, _) _ ⟨⟨hx3, hf3, F3⟩, rfl, Or.inr ⟨k, by omega, rfl, fi_eq⟩⟩
          · rw [if_neg hc, b2_s, if_pos (by rw [← Int32.not_lt]; exact hc), bp_s]
            exact hs hk' (a, _) _ ⟨⟨i1, i2, i3⟩, rfl, Or.inr ⟨j, hj, rfl, i6⟩⟩) 0 (Nat.zero_le _) (a2, -2) (-2) ⟨⟨hx2, hf2, F2⟩, rfl, Or.inl ⟨rfl, f16⟩⟩
  have e1' : sX1_asks_L17 x FU a2 (-2) 0 = some (u, v) := e1
  have e2' : sX2_askOf_L11 b mo FU (-2) 0 = some r := e2
  rw [e1', b2_s, e2', bp_s]
  exact W2_ret ⟨⟨hu.1, hI.2.1, hu.2.1⟩, hv, hr⟩
theorem OP_ask (h : RL x mo sx sm) : W2 (sX1_ask sx x) (sX2_ask sm mo) (Op x mo sx sm) := by
  unfold sX1_ask sX2_ask
  refine op_town h ?_
  intro w R S hC
  rw [hC.qc.xd.k5, M_kd hC.ms]
  refine W2_bd (W2_ask hC) (fun a c b d hP => ?_)
  exact fin_wellI hC hP.1 hP.2.1
theorem OP_askLeaves (h : RL x mo sx sm) : W2 (sX1_askLeaves sx x) (sX2_askLeaves sm mo) (Op x mo sx sm) := by
  unfold sX1_askLeaves sX2_askLeaves
  refine op_town h ?_
  intro w R S hC
  rw [hC.qc.xd.k5, M_kd hC.ms]
  refine W2_bd (W2_ask hC) (fun a c b d hP => ?_)
  obtain ⟨hI, h2, h3⟩ := hP
  dsimp only at hI h2 h3
  subst h2
  have bm := hC.mc.mq hI.2.1
  rw [g16_5 (hC.qc.xq hI.1).xd.1.1]
  rcases h3 with ⟨rfl, h4⟩ | ⟨j, hj, rfl, h4⟩
  · rw [if_neg (by decide), h4]
    exact fin_wellI hC hI rfl
  · rw [if_pos (nI_pos' (by omega)), M_kd bm.1, M_lv bm.1 hj, bp_s, h4]
    exact fin_wellI hC hI rfl
/-- three eyes by as few as can be -/
theorem watchS_p {R T : Nat → Nat} (p t : Nat) : watchS R T p t < 2 ^ R 3 := by
  refine itN_inv (K := R 3) (fun k b => b < 2 ^ R 3) (fun k b hk hb => ?_) (R 3) 0 _ (by omega) (Nat.two_pow_pos _)
  refine Nat.or_lt_two_pow hb ?_
  have := pow_le_of (a := k) (n := R 3) hk
  have := Nat.two_pow_pos (R 3)
  unfold b1
  split <;> omega
theorem sub_all {β : Type} (f : Nat → β → β) (all n : Nat) (b : β) (hn : n < 2 ^ 32) (ha : all < n) (h : ∀ k o, ¬ k &&& (all ^^^ 4294967295) = 0 → f k o = o) : itN f n 0 b = itN f (all + 1) 0 b := by
  rw [show n = (all + 1) + (n - (all + 1)) by omega, itN_add]
  refine itN_id _ _ _ _ (fun j s h1 h2 => h j s (fun e => ?_))
  have := sub_le (a := j) (b := all) (by omega) e
  omega
def triF (R : Nat → Nat) (all k : Nat) (o : Option Nat) : Option Nat := if k &&& (all ^^^ 4294967295) = 0 ∧ 6 ≤ eyesS R (eyP R none) k ∧ (∀ m, o = some m → onesS k < onesS m) then some k else o
theorem triF_lt {R : Nat → Nat} {all k : Nat} {o : Option Nat} (hk : k < 256) (ho : oLt o 256) : oLt (triF R all k o) 256 := by
  unfold triF
  split
  · exact oLt_s hk
  · exact ho
theorem X_whyM {v u : Int32} (h : sx.ob x = 5) : sX1_whyMinute sx x v u = sX1_why sx x v u 0 59 := by
  unfold sX1_whyMinute
  rw [kd_ob h]
  cases sX1_why sx x v u 0 59 <;> rfl
theorem OP_three (h : RL x mo sx sm) (p u : Int32) : W2 (sX1_three sx x p u) (sX2_three sm mo p u) (Op x mo sx sm) := by
  unfold sX1_three sX2_three
  simp only [X_whyM h.1.1.1]
  refine op_why h (h.isP p) ?_
  intro w R S k t hC hk e ht e'
  subst e e'
  have hw := hC.qc.wf
  have h6 := hw.2.2.1
  have h3 := hw.2.2.2.2.1
  have hp6 := pow6 hw
  obtain ⟨τ, e, m1, m2, m3⟩ := hC.now
  obtain ⟨a1, a2⟩ := X_wat hC.qc (p := k) (t := t) (by omega) ht
  have a3 := watchS_p (R := R) (T := S) k t
  rw [hC.qc.xd.r1002, hC.qc.xd.s1.i21, a1, bp_s, M_kd hC.ms, e, bp_s, M_kd m2.1, M_wat m2 m3 hC.qc.wf hC.qc.tb (by omega) ht, bp_s]
  generalize watchS R S k t = all at a2 a3
  have hall : itN (triF R all) (2 ^ R 3) 0 none = itN (triF R all) (all + 1) 0 none := sub_all _ _ _ _ (by omega) a3 (fun k o hn => if_neg (fun a => hn a.1))
  -- the component
  obtain ⟨r1, e1, rfl⟩ := Wp_loop (fun n (b : Int32) k => sX1_three_L39 sx x (nI all) n b (nI k)) (all + 1) (fun k b => ∃ o, b = bI o ∧ oLt o 256 ∧ itN (triF R all) (all + 1 - k) k o = itN (triF R all) (all + 1) 0 none) (Q := fun v => v = bI (itN (triF R all) (all + 1) 0 none)) (by omega) (fun n k b hk hi hn => by
    obtain ⟨o, rfl, i4, i5⟩ := hi
    rw [sX1_three_L39]
    by_cases hkk : k = all + 1
    · rw [if_pos (nI_lt (by omega) (by omega))]
      rw [hkk, Nat.sub_self] at i5
      exact ⟨_, rfl, by rw [← i5]; rfl⟩
    · have hk' : k < all + 1 := by omega
      have hk6 : k < 64 := by omega
      rw [show all + 1 - k = (all + 1 - (k + 1)) + 1 by omega] at i5
      have i5' : itN (triF R all) (all + 1 - (k + 1)) (k + 1) (triF R all k o) = itN (triF R all) (all + 1) 0 none := i5
      have hso := triF_lt (R := R) (all := all) (k := k) (by omega) i4
      obtain ⟨y1, y2⟩ := X_eye hC.qc hC.fl np (s := k) (by omega)
      have c6 : (nI (eyesS R (eyP R none) k) < 6) = (eyesS R (eyP R none) k < 6) := nI_lt' (b := 6) (by omega) (by decide)
      rw [if_neg (nI_nlt (by omega) (by omega)), iteP (and_Mz (by omega)), hC.qc.xd.k5, y1, bp_s, iteP c6, iteP (bI_e i4), nI_1]
      by_cases hc : k &&& (all ^^^ 4294967295) = 0
      · rw [if_pos hc]
        by_cases h6 : eyesS R (eyP R none) k < 6
        · have : triF R all k o = o := if_neg (fun a => by omega)
          rw [this] at i5' hso
          rw [if_pos h6, bp_s]
          exact hn hk' _ ⟨o, rfl, i4, i5'⟩
        · rw [if_neg h6]
          match o, i4 with
          | none, i4 =>
            have : triF R all k none = some k := if_pos ⟨hc, by omega, fun m q => (by cases q)⟩
            rw [this] at i5' hso
            rw [if_pos rfl, bp_s]
            exact hn hk' _ ⟨some k, rfl, hso, i5'⟩
          | some m, i4 =>
            have hm := i4 m rfl
            have o1 := onesS_le' k (by omega)
            have o2 := onesS_le' m hm
            rw [if_neg (by simp)]
            show Wp (bp (bp (sX1_bits sx (nI k)) fun v21 => bp (sX1_bits sx (nI m)) fun v23 => _) _) _
            rw [X_bits _ (by omega), bp_s, X_bits _ hm, bp_s, iteP (nI_le' (by omega) (by omega))]
            by_cases hlt : onesS m ≤ onesS k
            · have : triF R all k (some m) = some m := if_neg (fun a => by have := a.2.2 m rfl; omega)
              rw [this] at i5' hso
              rw [if_pos hlt, bp_s]
              exact hn hk' _ ⟨some m, rfl, hso, i5'⟩
            · have : triF R all k (some m) = some k := if_pos ⟨hc, by omega, fun m' q => (by cases q; omega)⟩
              rw [this] at i5' hso
              rw [if_neg hlt, bp_s]
              exact hn hk' _ ⟨some k, rfl, hso, i5'⟩
      · have : triF R all k o = o := if_neg (fun a => hc a.1)
        rw [this] at i5' hso
        rw [if_neg hc, bp_s]
        exact hn hk' _ ⟨o, rfl, i4, i5'⟩) 0 (Nat.zero_le _) (-2) ⟨none, rfl, oLt_n, rfl⟩
  obtain ⟨r2, e2, rfl⟩ := Wp_loop (fun n (b : Int32) k => sX2_three_L48 τ mo (nI all) n b (nI k)) (2 ^ R 3) (fun k b => ∃ o, b = bI o ∧ oLt o 256 ∧ itN (triF R all) (2 ^ R 3 - k) k o = itN (triF R all) (all + 1) 0 none) (Q := fun v => v = bI (itN (triF R all) (all + 1) 0 none)) (by omega) (fun n k b hk hi hn => by
    obtain ⟨o, rfl, i4, i5⟩ := hi
    have l1 : (1 : Int32) <<< (nI (R 3) &&& 31) = nI (2 ^ R 3) := nI_shl1 (by omega)
    rw [sX2_three_L48, M_n3 m2, l1]
    by_cases hkk : k = 2 ^ R 3
    · rw [if_pos (nI_le (by omega) (by omega))]
      rw [hkk, Nat.sub_self] at i5
      exact ⟨_, rfl, by rw [← i5]; rfl⟩
    · have hk' : k < 2 ^ R 3 := by omega
      have hk6 : k < 64 := by omega
      rw [show 2 ^ R 3 - k = (2 ^ R 3 - (k + 1)) + 1 by omega] at i5
      have i5' : itN (triF R all) (2 ^ R 3 - (k + 1)) (k + 1) (triF R all k o) = itN (triF R all) (all + 1) 0 none := i5
      have hso := triF_lt (R := R) (all := all) (k := k) (by omega) i4
      have y1 := M_eye m2 m3 hw (s := k) (by omega)
      have y2 := (X_eye hC.qc hC.fl np (s := k) (by omega)).2
      have c6 : (nI (eyesS R (eyP R none) k) < 6) = (eyesS R (eyP R none) k < 6) := nI_lt' (b := 6) (by omega) (by decide)
      rw [if_neg (nI_ge (by omega) (by omega)), iteP (and_Mz (by omega)), M_kd m2.1, y1, bp_s, iteP c6, iteP (bI_l i4), nI_1]
      by_cases hc : k &&& (all ^^^ 4294967295) = 0
      · rw [if_pos hc]
        by_cases h6 : eyesS R (eyP R none) k < 6
        · have : triF R all k o = o := if_neg (fun a => by omega)
          rw [this] at i5' hso
          rw [if_pos h6, bp_s]
          exact hn hk' _ ⟨o, rfl, i4, i5'⟩
        · rw [if_neg h6]
          match o, i4 with
          | none, i4 =>
            have : triF R all k none = some k := if_pos ⟨hc, by omega, fun m q => (by cases q)⟩
            rw [this] at i5' hso
            rw [if_pos rfl, bp_s]
            exact hn hk' _ ⟨some k, rfl, hso, i5'⟩
          | some m, i4 =>
            have hm := i4 m rfl
            have o1 := onesS_le' k (by omega)
            have o2 := onesS_le' m hm
            rw [if_neg (by simp)]
            show Wp (bp (bp (sX2_ones τ (nI k)) fun v21 => bp (sX2_ones τ (nI m)) fun v23 => _) _) _
            rw [M_ones _ (by omega), bp_s, M_ones _ hm, bp_s, iteP (nI_le' (by omega) (by omega))]
            by_cases hlt : onesS m ≤ onesS k
            · have : triF R all k (some m) = some m := if_neg (fun a => by have := a.2.2 m rfl; omega)
              rw [this] at i5' hso
              rw [if_pos hlt, bp_s]
              exact hn hk' _ ⟨some m, rfl, hso, i5'⟩
            · have : triF R all k (some m) = some k := if_pos ⟨hc, by omega, fun m' q => (by cases q; omega)⟩
              rw [this] at i5' hso
              rw [if_neg hlt, bp_s]
              exact hn hk' _ ⟨some k, rfl, hso, i5'⟩
      · have : triF R all k o = o := if_neg (fun a => hc a.1)
        rw [this] at i5' hso
        rw [if_neg hc, bp_s]
        exact hn hk' _ ⟨o, rfl, i4, i5'⟩) 0 (Nat.zero_le _) (-2) ⟨none, rfl, oLt_n, hall⟩
  have e1' : sX1_three_L39 sx x (nI all) FU (-2) 0 = _ := e1
  have e2' : sX2_three_L48 τ mo (nI all) FU (-2) 0 = _ := e2
  rw [e1', bp_s, e2', bp_s]
  exact fin_well hC (Xq.rf ..) m1 hC.fl rfl
end
