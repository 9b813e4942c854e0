/-! QUERIES: says, rests, rest; quarrels with boys; swings -/
set_option maxRecDepth 100000
theorem iteS {α : Type} {c : Prop} [Decidable c] (a b : α) : (if c then some a else some b) = some (if c then a else b) := by split <;> rfl
theorem dz2 {α : Type} (k : Option α) : dzI (2 : Int32) k = k := if_neg (by decide)
def getV (h a b : Int32) : Int32 := if a = 0 then (if b = 0 then 2 else -h) else (if b = 0 then 4 else 1 - h)
theorem X_gets (s : St) (h a b : Int32) : sX1_gets s h a b = some (getV h a b) := by
  unfold sX1_gets getV
  split <;> split <;> rfl
theorem M_says (s : St) (h a b : Int32) : sX2_saysOf s h a b = some (getV h a b) := X_gets s h a b
def oneV (v : Int32) : Int32 := if v ≤ 1 then 0 else 1
def twoV (v : Int32) : Int32 := if (v - v / 2 * 2) = 1 then 1 else 0
def notV (v : Int32) : Int32 := if v = 0 then 1 else 0
/-- neither gains by turning alone -/
def okV (h v : Int32) : Bool := decide (¬ getV h (oneV v) (twoV v) < getV h (notV (oneV v)) (twoV v) ∧ ¬ getV h (twoV v) (oneV v) < getV h (notV (twoV v)) (oneV v))
theorem okV_t {h v : Int32} (a : ¬ getV h (oneV v) (twoV v) < getV h (notV (oneV v)) (twoV v)) (b : ¬ getV h (twoV v) (oneV v) < getV h (notV (twoV v)) (oneV v)) : okV h v = true := decide_eq_true ⟨a, b⟩
theorem okV_1 {h v : Int32} (a : getV h (oneV v) (twoV v) < getV h (notV (oneV v)) (twoV v)) : okV h v = false := decide_eq_false (fun q => q.1 a)
theorem okV_2 {h v : Int32} (a : getV h (twoV v) (oneV v) < getV h (notV (twoV v)) (oneV v)) : okV h v = false := decide_eq_false (fun q => q.2 a)
theorem X_isRest (s : St) (h v : Int32) : sX1_isRest s h v = some (if okV h v then 1 else 0) := by
  have e1 : (if v ≤ 1 then some (0 : Int32) else some 1) = some (oneV v) := iteS _ _
  have e2 : (if (v - v / 2 * 2) = 1 then some (1 : Int32) else some 0) = some (twoV v) := iteS _ _
  have e3 : (if oneV v = 0 then some (1 : Int32) else some 0) = some (notV (oneV v)) := iteS _ _
  have e4 : (if twoV v = 0 then some (1 : Int32) else some 0) = some (notV (twoV v)) := iteS _ _
  unfold sX1_isRest
  rw [e1, bp_s, dz2, e2, bp_s, e3, bp_s, X_gets, bp_s, X_gets, bp_s, e4, bp_s, X_gets, bp_s, X_gets, bp_s]
  by_cases a : getV h (oneV v) (twoV v) < getV h (notV (oneV v)) (twoV v)
  · rw [if_pos a, okV_1 a]; rfl
  · rw [if_neg a]
    by_cases b : getV h (twoV v) (oneV v) < getV h (notV (twoV v)) (oneV v)
    · rw [if_pos b, okV_2 b]; rfl
    · rw [if_neg b, okV_t a b]; rfl
section
variable {x mo : Nat} {σ sx s0 sm : St} {w : Nat → Nat → Nat} {R S T : Nat → Nat} {pl : Option Nat} {oth : Nat}
/-- a round of the model's search for rests -/
theorem M_round {n : Nat} {b : St} {h v c : Int32} (hm : MS b mo) (hv : ¬ 4 ≤ v) : sX2_seekRests_L10 mo h (n + 1) b c v = (if okV h v then (if c = 0 then sX2_seekRests_L10 mo h n (b.sI 44 mo ((10 * (v / 2)) + (v - v / 2 * 2))) (c + 1) (v + 1) else sX2_seekRests_L10 mo h n b (c + 1) (v + 1)) else sX2_seekRests_L10 mo h n b c (v + 1)) := by
  have e1 : (if v ≤ 1 then some (0 : Int32) else some 1) = some (oneV v) := iteS _ _
  have e2 : (if (v - v / 2 * 2) = 1 then some (1 : Int32) else some 0) = some (twoV v) := iteS _ _
  have e3 : (if oneV v = 0 then some (1 : Int32) else some 0) = some (notV (oneV v)) := iteS _ _
  have e4 : (if twoV v = 0 then some (1 : Int32) else some 0) = some (notV (twoV v)) := iteS _ _
  rw [sX2_seekRests_L10, if_neg hv, e1, bp_s, dz2, e2, bp_s, e3, bp_s, M_says, bp_s, M_says, bp_s, e4, bp_s, M_says, bp_s, M_says, bp_s]
  by_cases a : getV h (oneV v) (twoV v) < getV h (notV (oneV v)) (twoV v)
  · rw [if_pos a, b2_s, okV_1 a]; rfl
  · rw [if_neg a]
    by_cases d : getV h (twoV v) (oneV v) < getV h (notV (twoV v)) (oneV v)
    · have d' : ¬ getV h (notV (twoV v)) (oneV v) ≤ getV h (twoV v) (oneV v) := by rw [Int32.not_le]; exact d
      rw [if_neg d', b2_s, okV_2 d]; rfl
    · have d' : getV h (notV (twoV v)) (oneV v) ≤ getV h (twoV v) (oneV v) := by rw [← Int32.not_lt]; exact d
      rw [if_pos d', okV_t a d, if_pos rfl]
      by_cases hc : c = 0
      · rw [if_pos hc, if_pos hc, dz2, dz2, M_p44 hm, bp_s, b2_s]
      · rw [if_neg hc, if_neg hc, bp_s, b2_s]
/-- both ask for a town and a heat -/
theorem RL.heat (h : RL x mo sx sm) (p : Int32) : ∃ c v5, sX1_whyHeat sx x p = some c ∧ sX2_in (gd sm mo) p 0 9 = some v5 ∧ sX2_why (gd sm mo) mo ((gd sm mo).fi 31 mo) v5 = some c ∧ ((c = nI 0 ∧ ∃ w R S, CT x mo sx (gd sm mo) sm w R S) ∨ c = nI 1 ∨ c = nI 2) := by
  have e10 : (decide (0 ≤ p) && decide (p ≤ 9)) = isB p 10 := in_le (v := p) (n := 9) (by decide)
  refine ⟨if (gd sm mo).fi 31 mo = 0 then nI 1 else if isB p 10 then nI 0 else nI 2, _, ?_, M_in .., ?_, ?_⟩
  · unfold sX1_whyHeat
    rcases h.2.2 with h0 | ⟨w, R, S, hT⟩
    · have a1 : sX1_why sx x 0 p 0 9 = some (nI 1) := X_why (b := false) e10
      rw [X_no h.1.1 h0.1, if_pos rfl, bp_s, kd_ob h.1.1.1, a1, bp_s, h0.gd'.2.1, if_pos (by decide)]
    · have a1 : sX1_why sx x 1 p 0 9 = some (if isB p 10 then nI 0 else nI 2) := X_why (b := true) e10
      rw [hT.1.1.r1001, if_neg (by simp), bp_s, kd_ob h.1.1.1, a1, bp_s, hT.2.1.gd'.2.2.2, if_neg (show ¬ nI 1 = 0 by decide)]
  · rw [e10]
    rcases h.2.2 with h0 | ⟨w, R, S, hT⟩
    · rw [h0.gd'.2.1, if_pos (by decide)]
      exact M_why _ false (isB p 10)
    · rw [hT.2.1.gd'.2.2.2, if_neg (by decide)]
      exact M_why _ true (isB p 10)
  · rcases h.2.2 with h0 | ⟨w, R, S, hT⟩
    · rw [h0.gd'.2.1, if_pos (by decide)]
      exact Or.inr (Or.inl rfl)
    · rw [hT.2.1.gd'.2.2.2, if_neg (by decide)]
      cases isB p 10
      · exact Or.inr (Or.inr rfl)
      · exact Or.inl ⟨rfl, w, R, S, h.ct hT⟩
theorem OP_says (h : RL x mo sx sm) (p a b c : Int32) : W2 (sX1_says sx x p a b c) (sX2_says sm mo p a b c) (Op x mo sx sm) := by
  unfold sX1_says sX2_says
  obtain ⟨d, v5, h1, h2, h3, h4⟩ := h.heat p
  have hm := gd_ms h.1.2.1
  rw [kd_ob h.1.1.1, h1, bp_s, M_kd h.1.2.1, M_good h.1.2.1, bp_s, M_g31 hm, h2, bp_s, M_kd hm, h3, bp_s]
  have href : ∀ k : Int32, k ≠ 4 → W2 (kd sx x 5 <| bd (sX1_refusedBy sx x k (-100)) fun s16 v17 => some (s16, v17)) (pI (gd sm mo) 29 (some mo) k fun s14 => some (s14, (-100))) (Op x mo sx sm) := fun k hk => by
    have hr := h.refuse k hk
    unfold sX1_refusedBy
    rw [kd_ob h.1.1.1, kd_ob h.1.1.1, X_refused h.1.1.1 h.1.1.2.1, bd_s, bd_s, M_p29 hm]
    exact W2_ret ⟨rfl, hr, ⟨by show sx.rc ≤ sx.rc + 18000; omega, by show sx.rs ≤ sx.rs + 85000; omega⟩, rfl⟩
  rcases h4 with ⟨rfl, w, R, S, hC⟩ | rfl | rfl
  · rw [if_pos (show nI 0 ≤ 0 by decide), if_pos (show nI 0 = 0 by decide), X_gets, bp_s, X_gets, bp_s, M_says, bp_s, M_says, bp_s]
    by_cases hc : c = 0
    · rw [if_pos hc, if_pos hc, bp_s]
      exact fin_wellI hC hC.iq0 rfl
    · rw [if_neg hc, if_neg hc, bp_s]
      exact fin_wellI hC hC.iq0 rfl
  · exact href (nI 1) (by decide)
  · exact href (nI 2) (by decide)
theorem OP_rests (h : RL x mo sx sm) (p : Int32) : W2 (sX1_rests sx x p) (sX2_rests sm mo p) (Op x mo sx sm) := by
  unfold sX1_rests sX2_rests
  obtain ⟨d, v5, h1, h2, h3, h4⟩ := h.heat p
  have hm := gd_ms h.1.2.1
  rw [kd_ob h.1.1.1, h1, bp_s, M_kd h.1.2.1, M_good h.1.2.1, bp_s, M_g31 hm, h2, bp_s, M_kd hm, h3, bp_s]
  rcases h4 with ⟨rfl, w, R, S, hC⟩ | rfl | rfl
  · rw [if_pos (show nI 0 ≤ 0 by decide), if_pos (show nI 0 = 0 by decide), M_kd hm]
    unfold sX2_seekRests
    rw [M_p44 hm]
    obtain ⟨a, b, e1, e2, hab⟩ := W2_loop (fun n (c : Int32) k => sX1_rests_L21 sx p n c (nI k)) (fun n (b : St × Int32) k => sX2_seekRests_L10 mo p n b.1 b.2 (nI k)) 4 (fun _ c b => Mq mo (gd sm mo) b.1 ∧ c = b.2) (Q := fun c b => Mq mo (gd sm mo) b.1 ∧ c = b.2) (by decide) (fun n m k c b hk hi hs => by
      obtain ⟨b, c'⟩ := b
      obtain ⟨i1, i2⟩ := hi
      dsimp only at i1 i2 hs ⊢
      subst i2
      have bm := hC.mc.mq i1
      rw [sX1_rests_L21]
      by_cases hkk : k = 4
      · subst hkk
        rw [sX2_seekRests_L10, if_pos (by decide), if_pos (by decide)]
        exact W2_ret ⟨i1, rfl⟩
      · have hk' : k < 4 := by omega
        have hn : ¬ (4 : Int32) ≤ nI k := nI_ge (a := k) (b := 4) hk' (by decide)
        rw [if_neg hn, M_round bm.1 hn, nI_1]
        rw [X_isRest, bp_s]
        cases ho : okV p (nI k)
        rotate_left
        · rw [if_pos rfl, if_neg (show ¬ (1 : Int32) = 0 by decide), bp_s, if_pos rfl]
          split
          · exact hs hk' _ (_, _) ⟨i1.sI rfl, rfl⟩
          · exact hs hk' _ (_, _) ⟨i1, rfl⟩
        · rw [if_neg (show ¬ (false = true) by decide), if_neg (show ¬ (false = true) by decide), if_pos rfl, bp_s, Int32.add_zero]
          exact hs hk' _ (_, _) ⟨i1, rfl⟩) 0 (Nat.zero_le _) 0 ((gd sm mo).sI 44 mo (-2), 0) ⟨(Mq.rf ..).sI rfl, rfl⟩
    have e1' : sX1_rests_L21 sx p FU 0 0 = some a := e1
    have e2' : sX2_seekRests_L10 mo p FU ((gd sm mo).sI 44 mo (-2)) 0 0 = some b := e2
    rw [e1', bp_s, e2']
    show W2 _ (bd (b2 (some (b.1, b.2)) _) _) _
    rw [b2_s, bd_s]
    exact fin_well hC (Xq.rf ..) hab.1 hC.fl hab.2
  · exact fin_ref h (nI 1) (by decide)
  · exact fin_ref h (nI 2) (by decide)
/-- the first rest from k on -/
def frR (h : Int32) : Nat → Nat → Int32
  | _, 0 => -2
  | k, d + 1 => if okV h (nI k) then (10 * (nI k / 2)) + (nI k - nI k / 2 * 2) else frR h (k + 1) d
theorem OP_rest (h : RL x mo sx sm) (p : Int32) : W2 (sX1_rest sx x p) (sX2_rest sm mo p) (Op x mo sx sm) := by
  unfold sX1_rest sX2_rest
  obtain ⟨d, v5, h1, h2, h3, h4⟩ := h.heat p
  have hm := gd_ms h.1.2.1
  rw [kd_ob h.1.1.1, h1, bp_s, M_kd h.1.2.1, M_good h.1.2.1, bp_s, M_g31 hm, h2, bp_s, M_kd hm, h3, bp_s]
  rcases h4 with ⟨rfl, w, R, S, hC⟩ | rfl | rfl
  · rw [if_pos (show nI 0 ≤ 0 by decide), if_pos (show nI 0 = 0 by decide), M_kd hm]
    unfold sX2_seekRests
    rw [M_p44 hm]
    have hx := hC.qc.xd.1
    obtain ⟨b, e2, hb1, hb2⟩ := Wp_loop (fun n (b : St × Int32) k => sX2_seekRests_L10 mo p n b.1 b.2 (nI k)) 4 (fun k b => Mq mo (gd sm mo) b.1 ∧ ((b.2 = 0 ∧ b.1.fi 44 mo = -2 ∧ frR p k (4 - k) = frR p 0 4) ∨ (∃ j, 0 < j ∧ j ≤ k ∧ b.2 = nI j ∧ b.1.fi 44 mo = frR p 0 4))) (Q := fun b => Mq mo (gd sm mo) b.1 ∧ b.1.fi 44 mo = frR p 0 4) (by decide) (fun n k b hk hi hn => by
      obtain ⟨b, c⟩ := b
      obtain ⟨i1, i2⟩ := hi
      dsimp only at i1 i2 hn ⊢
      have bm := hC.mc.mq i1
      by_cases hkk : k = 4
      · subst hkk
        rw [sX2_seekRests_L10, if_pos (by decide)]
        refine W_ret ⟨i1, ?_⟩
        rcases i2 with ⟨a1, a2, a3⟩ | ⟨j, a1, a2, a3, a4⟩
        · rw [a2, ← a3]; rfl
        · exact a4
      · have hk' : k < 4 := by omega
        have hn4 : ¬ (4 : Int32) ≤ nI k := nI_ge (a := k) (b := 4) hk' (by decide)
        rw [M_round bm.1 hn4, nI_1]
        by_cases ho : okV p (nI k) = true
        · rw [if_pos ho]
          rcases i2 with ⟨a1, a2, a3⟩ | ⟨j, a1, a2, a3, a4⟩
          · rw [if_pos a1]
            refine hn hk' (b.sI 44 mo ((10 * (nI k / 2)) + (nI k - nI k / 2 * 2)), c + 1) ⟨i1.sI rfl, Or.inr ⟨1, by decide, by omega, by rw [a1]; rfl, ?_⟩⟩
            dsimp only
            rw [fi_eq, ← a3, show 4 - k = (4 - (k + 1)) + 1 by omega, frR, if_pos ho]
          · rw [if_neg (by rw [a3]; exact nI_ne0 a1 (by omega))]
            exact hn hk' (_, _) ⟨i1, Or.inr ⟨j + 1, by omega, by omega, by rw [a3, nI_1], a4⟩⟩
        · rw [if_neg ho]
          refine hn hk' (_, _) ⟨i1, ?_⟩
          rcases i2 with ⟨a1, a2, a3⟩ | ⟨j, a1, a2, a3, a4⟩
          · refine Or.inl ⟨a1, a2, ?_⟩
            rw [← a3, show 4 - k = (4 - (k + 1)) + 1 by omega]
            show _ = frR p k (4 - (k + 1) + 1)
            rw [frR, if_neg ho]
          · exact Or.inr ⟨j, a1, by omega, a3, a4⟩) 0 (Nat.zero_le _) ((gd sm mo).sI 44 mo (-2), 0) ⟨(Mq.rf ..).sI rfl, Or.inl ⟨rfl, fi_eq, rfl⟩⟩
    have bm := hC.mc.mq hb1
    obtain ⟨v, e1, hv⟩ := Wp_loop (fun n (_ : Unit) k => sX1_rest_L18 sx x p n (nI k)) 4 (fun k _ => frR p k (4 - k) = frR p 0 4) (Q := fun v => v = .inl (en sx x 0, frR p 0 4) ∨ (v = .inr () ∧ frR p 0 4 = -2)) (by decide) (fun n k _ hk hi hn => by
      rw [sX1_rest_L18]
      by_cases hkk : k = 4
      · subst hkk
        rw [if_pos (by decide)]
        exact ⟨_, rfl, Or.inr ⟨rfl, hi.symm⟩⟩
      · have hk' : k < 4 := by omega
        have hn4 : ¬ (4 : Int32) ≤ nI k := nI_ge (a := k) (b := 4) hk' (by decide)
        rw [show 4 - k = (4 - (k + 1)) + 1 by omega, frR] at hi
        rw [if_neg hn4, nI_1, X_isRest, bp_s]
        by_cases ho : okV p (nI k) = true
        · rw [if_pos ho] at hi
          rw [if_pos ho, if_neg (show ¬ (1 : Int32) = 0 by decide), dz2, dz2, kd_ob hx.1, X_well hx.1 hx.2.1, bd_s]
          exact ⟨_, rfl, Or.inl (by rw [hi])⟩
        · rw [if_neg ho] at hi
          rw [if_neg ho, if_pos rfl]
          exact hn hk' () hi) 0 (Nat.zero_le _) () rfl
    have e1' : sX1_rest_L18 sx x p FU 0 = some v := e1
    have e2' : sX2_seekRests_L10 mo p FU ((gd sm mo).sI 44 mo (-2)) 0 0 = some b := e2
    rw [e1', e2']
    show W2 _ (bd (b2 (some (b.1, b.2)) _) _) _
    rw [b2_s, bd_s, M_g44 bm.1, hb2]
    rcases hv with rfl | ⟨rfl, hv⟩
    · rw [lc_l]
      exact W2_ret (fin_op hC (Xq.rf ..) hb1 hC.fl rfl)
    · rw [lc_r]
      exact fin_well hC (Xq.rf ..) hb1 hC.fl hv.symm
  · exact fin_ref h (nI 1) (by decide)
  · exact fin_ref h (nI 2) (by decide)
end
