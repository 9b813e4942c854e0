/-! FEED: the operation -/
set_option maxRecDepth 100000
section
variable {x mo : Nat} {sx sm : St}
def TP (x mo : Nat) (s1 s2 : St) : Prop := ∀ i, i < 900 → ∃ c, c < 256 ∧ s1.ai (x + 1) i = (nI c).toInt8.toInt32 ∧ s2.ai (mo + 1) i = nI c
def FI (x mo n : Nat) (sx sm : St) (k : Nat) (s1 s2 : St) : Prop := (s1.nn = sx.nn ∧ s1.ob = sx.ob ∧ s1.ln = sx.ln ∧ s1.fr = sx.fr ∧ s1.ar = sx.ar ∧ (∀ F a, s1.fi F a = sx.fi F a) ∧ (∀ a, a ≠ x + 1 → s1.ai a = sx.ai a)) ∧
  (s2.nn = sm.nn ∧ s2.ob = sm.ob ∧ s2.ln = sm.ln ∧ s2.fr = sm.fr ∧ (∀ F a, F ≠ 19 → F ≠ 20 → s2.fi F a = sm.fi F a) ∧ (∀ a, a ≠ mo + 1 → s2.ai a = sm.ai a)) ∧ s2.fi 20 mo = nI (n + k) ∧ TP x mo s1 s2
theorem TP.up {s1 s2 : St} {i c : Nat} (h : TP x mo s1 s2) (hc : c < 256) : TP x mo (s1.aI (x + 1) (upA (s1.ai (x + 1)) i (nI c).toInt8.toInt32)) (s2.aI (mo + 1) (upA (s2.ai (mo + 1)) i (nI c))) := by
  intro j hj
  rw [ai_aI, ai_aI, up1_eq, up1_eq]
  by_cases e : j = i
  · exact ⟨c, hc, if_pos e, if_pos e⟩
  · obtain ⟨d, h1, h2, h3⟩ := h j hj
    exact ⟨d, h1, (if_neg e).trans h2, (if_neg e).trans h3⟩
theorem OP_feed (h : RL x mo sx sm) (p q r s t : Int32) : W2 (sX1_feed sx x p q r s t) (sX2_feed sm mo p q r s t) (Op x mo sx sm) := by
  unfold sX1_feed sX2_feed
  have hx := h.1.1
  have hm0 : MS sm mo := h.1.2.1
  have hm : MS (sm.sI 19 mo 0) mo := h.1.2.1
  have ht : TP x mo sx (sm.sI 19 mo 0) := h.1.2.2.2.2.1
  obtain ⟨n, b3, b4, b5⟩ := h.1.2.2.1
  have e20 : (sm.sI 19 mo 0).fi 20 mo = nI n := (fi_ne (by decide)).trans b5
  rw [g0_5 hx.1, M_p19 hm0, M_g20 hm, e20, b4]
  by_cases hn : n + 20 ≤ 900
  · have hc : nI n + 20 ≤ 900 := by
      rw [show (20 : Int32) = nI 20 from rfl, show (900 : Int32) = nI 900 from rfl, nI_add]
      exact nI_le (by omega) (by omega)
    rw [if_pos hc, if_pos hc]
    have hl : W2 (sX1_feed_L18 x p q r s t FU sx (nI 0)) (sX2_feed_L23 mo p q r s t FU (sm.sI 19 mo 0) (nI 0)) (FI x mo n sx sm 20) := by
      refine W2_loop (fun n b k => sX1_feed_L18 x p q r s t n b (nI k)) (fun n b k => sX2_feed_L23 mo p q r s t n b (nI k)) 20 (fun k => FI x mo n sx sm k) (by decide) ?_ 0 (by decide) sx (sm.sI 19 mo 0) ?_
      · intro n1 n2 k s1 s2 hk hI ih
        show W2 (sX1_feed_L18 x p q r s t (n1 + 1) s1 (nI k)) (sX2_feed_L23 mo p q r s t (n2 + 1) s2 (nI k)) _
        rw [sX1_feed_L18, sX2_feed_L23]
        by_cases he : k = 20
        · subst he
          rw [if_pos (by decide), if_pos (by decide)]
          exact W2_ret hI
        · have hk2 : k < 20 := by omega
          have hg : ¬ (20 : Int32) ≤ nI k := show ¬ nI 20 ≤ nI k from nI_ge (by omega) (by omega)
          rw [if_neg hg, if_neg hg]
          obtain ⟨⟨a1, a2, a3, a4, a5, a6, a7⟩, ⟨c1, c2, c3, c4, c5, c6⟩, c7, c8⟩ := hI
          have hv : ∃ v, (if (4 : Int32) ≤ nI k then (if (8 : Int32) ≤ nI k then (if (12 : Int32) ≤ nI k then (if (16 : Int32) ≤ nI k then (some t) else (some s)) else (some r)) else (some q)) else (some p)) = some v := by
            split
            · split
              · split
                · split
                  · exact ⟨_, rfl⟩
                  · exact ⟨_, rfl⟩
                · exact ⟨_, rfl⟩
              · exact ⟨_, rfl⟩
            · exact ⟨_, rfl⟩
          obtain ⟨v, hv⟩ := hv
          rw [hv, bp_s, bp_s]
          have hx1 : XO s1 x := hx.ip a1 a2 a3 a4
          have hm1 : MS s2 mo := by
            have := hm0
            unfold MS at this ⊢
            rw [c2, c3, c4, show s2.lo = sm.lo by simp only [St.lo, c1]]
            exact this
          obtain ⟨c, hc1, hc2, hc3⟩ := by_lem v (fd_s k hk2)
          rw [g1000_5 hx1.1, hx1.2.2.1.1, g0_5 hx1.1, a6, b4, nI_add, M_r1009 hm1, M_g20 hm1, c7, hc2, hc3]
          have hdz : ∀ {α : Type} (k : Option α), dzI (4 : Int32) k = k := fun k => if_neg (by decide)
          rw [hdz, hdz, tB_ap hx1.2.2.2.1.1 (by have := hx1.2.1; omega) hx1.2.2.2.2.1 (by omega) (by decide), M_t1 hm1 (by omega), Int8.toInt8_toInt32]
          have hm2 : MS (s2.aI (mo + 1) (upA (s2.ai (mo + 1)) (n + k) (nI c))) mo := hm1
          rw [M_g20 hm2, show (s2.aI (mo + 1) (upA (s2.ai (mo + 1)) (n + k) (nI c))).fi 20 mo = nI (n + k) from c7, M_p20 hm2, show (1 : Int32) = nI 1 from rfl, nI_add, nI_add]
          refine ih hk2 _ _ ⟨⟨a1, a2, a3, a4, a5, a6, fun a ha => ?_⟩, ⟨c1, c2, c3, c4, fun F a h1 h2 => (fi_ne h2).trans (c5 F a h1 h2), fun a ha => ?_⟩, fi_eq, c8.up hc1⟩
          · rw [ai_aI, up1_ne ha]; exact a7 a ha
          · show (s2.aI (mo + 1) _).ai a = _
            rw [ai_aI, up1_ne ha]; exact c6 a ha
      · exact ⟨⟨rfl, rfl, rfl, rfl, rfl, fun _ _ => rfl, fun _ _ => rfl⟩, ⟨rfl, rfl, rfl, rfl, fun F a h1 h2 => fi_ne h1, fun _ _ => rfl⟩, e20, ht⟩
    refine W2_bp hl ?_
    rintro s1 s2 ⟨⟨a1, a2, a3, a4, a5, a6, a7⟩, ⟨c1, c2, c3, c4, c5, c6⟩, c7, c8⟩
    have hx1 : XO s1 x := hx.ip a1 a2 a3 a4
    have hm1 : MS s2 mo := by
      have := hm0
      unfold MS at this ⊢
      rw [c2, c3, c4, show s2.lo = sm.lo by simp only [St.lo, c1]]
      exact this
    rw [g0_5 hx1.1, a6, b4, show (20 : Int32) = nI 20 from rfl, nI_add, p0_5 hx1.1 hx1.2.1, g0_5 (show (s1.sI 0 x _).ob x = 5 from hx1.1), fi_eq, M_g20 hm1, c7]
    refine W2_ret ⟨rfl, h.tape a1 a2 a3 a4 a5 (fun F a hF => (fi_ne hF).trans (a6 F a)) a7 c1 c2 c3 c4 c5 c6 ⟨n + 20, hn, fi_eq, c7⟩ c8, ⟨?_, ?_⟩, c1⟩
    · show sx.rc ≤ s1.nn.2.2.1 + 18000
      rw [a1]; exact Nat.le_add_right _ _
    · show sx.rs ≤ s1.nn.2.2.2.1 + 85000
      rw [a1]; exact Nat.le_add_right _ _
  · have hc : ¬ nI n + 20 ≤ 900 := by
      rw [show (20 : Int32) = nI 20 from rfl, show (900 : Int32) = nI 900 from rfl, nI_add]
      exact nI_ge (by omega) (by omega)
    rw [if_neg hc, if_neg hc]
    exact W2_ret (op_same h rfl)
end
