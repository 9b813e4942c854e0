/-! LISTS: add, remove, clear; a scene copied -/
set_option maxRecDepth 100000
section
variable {σ τ υ : St} {E E' : Nat → Prop} {α : Type}
/-- what an operation on the list l may change -/
def EL (σ : St) (l a : Nat) : Prop := a = l ∨ (σ.fr 1008 l = some a ∧ σ.ln a ≠ 0)
theorem EL.no {l l' d : Nat} (hg : GW σ) (h1 : σ.ob l = 6) (h2 : σ.ob l' = 6) (hne : l ≠ l') (hd : σ.fr 1008 l = some d) : ¬ EL σ l' d := by
  obtain ⟨-, d', e, h4, h5⟩ := hg.2 l h1
  rw [hd] at e
  cases e
  rintro (q | ⟨q1, q2⟩)
  · rw [q, h2] at h4; exact absurd h4 (by decide)
  · rcases h5 with ⟨-, r⟩ | ⟨-, -, r⟩
    · exact q2 r
    · exact hne (r l' h2 q1).symm
theorem LQ.fe {l n : Nat} {f : Nat → Nat} (h : LQ σ l n f) (hf : FE E σ τ) (hg : GW σ) (hE : ¬ E l) (hE2 : ∀ d, σ.fr 1008 l = some d → ¬ E d) : LQ τ l n f := by
  obtain ⟨h1, h2, d, h3, h4, h5, h6⟩ := h
  have al := hf.2.2.2.2.2 l (hg.1 l (by omega)) hE
  have ad := hf.2.2.2.2.2 d (hg.1 d (by omega)) (hE2 d h3)
  exact ⟨by rw [al.1]; exact h1, (al.2.2.1 18).trans h2, d, (al.2.2.2.1 1008).trans h3, by rw [ad.1]; exact h4, by rw [ad.2.1]; exact h5, fun i hi => by rw [ad.2.2.2.2.2]; exact h6 i hi⟩
theorem GW.sI (h : GW σ) {F a : Nat} {v : Int32} : GW (σ.sI F a v) := h
theorem GW.aR (h : GW σ) {a : Nat} {g : Nat → Option Nat} : GW (σ.aR a g) := h
theorem GW.aI (h : GW σ) {a : Nat} {g : Nat → Int32} : GW (σ.aI a g) := h
theorem GW.sR (h : GW σ) {F a : Nat} {v : Option Nat} (hF : F ≠ 1008) : GW (σ.sR F a v) := by
  refine ⟨h.1, fun l hl => ?_⟩
  obtain ⟨h1, d, h2, h3, h4⟩ := h.2 l hl
  have e : ∀ l, (σ.sR F a v).fr 1008 l = σ.fr 1008 l := fun l => if_neg (fun q => hF q.1.symm)
  refine ⟨h1, d, (e l).trans h2, h3, ?_⟩
  rcases h4 with q | ⟨q1, q2, q3⟩
  · exact Or.inl q
  · exact Or.inr ⟨q1, q2, fun l' hl' hf => q3 l' hl' ((e l').symm.trans hf)⟩
theorem grow_add {l n L' : Nat} {f : Nat → Nat} (hL : LQ σ l n f) (hg : GW σ) (hE : ∀ i, i < n → 5 ≤ σ.ob (f i) ∧ σ.ob (f i) < 22) (hr1 : 1 ≤ σ.rc) (hr2 : 22 ≤ σ.rs) (hd : ∃ d, σ.fr 1008 l = some d ∧ σ.ln d = n) (hc : (n = 0 ∧ L' = 10) ∨ (n = 10 ∧ L' = 15) ∨ (n = 15 ∧ L' = 22)) : ∃ τ, sJ2_grow σ l = some (τ, some σ.sz) ∧ FE (EL σ l) σ τ ∧ GW τ ∧ τ.fr 1008 l = some σ.sz ∧ τ.ob σ.sz = 4 ∧ τ.ln σ.sz = L' ∧ τ.ob l = 6 ∧ (∀ i, i < n → τ.ar σ.sz i = some (f i)) ∧ τ.sz = σ.sz + 1 ∧ τ.rs + 22 ≥ σ.rs ∧ τ.fi 18 l = nI n := by
  obtain ⟨h1, h2, d, h3, h4, h5, h6⟩ := hL
  obtain ⟨d', e, hln⟩ := hd
  rw [h3] at e
  cases e
  obtain ⟨hlo, d', e, -, hown⟩ := hg.2 l h1
  rw [h3] at e
  cases e
  have hls : l < σ.sz := hg.1 l (by omega)
  have hds : d < σ.sz := hg.1 d (by omega)
  have fin : ∀ (s : St), (s = σ.nA 4 L' ∨ ∃ g, s = (σ.nA 4 L').aR σ.sz g) → GW (s.sR 1008 l (some σ.sz)) ∧ FE (EL σ l) σ (s.sR 1008 l (some σ.sz)) := by
    intro s hs
    have hlen : L' = 10 ∨ L' = 15 ∨ L' = 22 := by omega
    have f1 : FE (EL σ l) σ (σ.nA 4 L') := (FE.rf σ).nA hr1
    have g1 : GW (σ.nA 4 L') := hg.nA (by decide)
    have o1 : (σ.nA 4 L').ob l = 6 := by show up1 σ.ob σ.sz 4 l = 6; rw [up1_ne (by omega)]; exact h1
    have o2 : (σ.nA 4 L').ob σ.sz = 4 := up1_eq
    have l2 : (σ.nA 4 L').ln σ.sz = L' := up1_eq
    have nof : ∀ l', (σ.nA 4 L').ob l' = 6 → (σ.nA 4 L').fr 1008 l' ≠ some σ.sz := fun l' hl' hf => by
      have hne : l' ≠ σ.sz := fun q => by rw [q, o2] at hl'; exact absurd hl' (by decide)
      have ho : σ.ob l' = 6 := by have : up1 σ.ob σ.sz 4 l' = 6 := hl'; rw [up1_ne hne] at this; exact this
      obtain ⟨-, d2, e2, e3, -⟩ := hg.2 l' ho
      have hf' : σ.fr 1008 l' = some σ.sz := hf
      rw [e2] at hf'
      cases hf'
      have := hg.1 _ (show σ.ob σ.sz ≠ 0 by omega)
      omega
    rcases hs with rfl | ⟨g, rfl⟩
    · exact ⟨g1.own o1 o2 (Nat.le_trans hlo (by show l ≤ σ.sz; omega)) (by rw [l2]; exact hlen) nof, f1.sR (Or.inl rfl)⟩
    · exact ⟨GW.own (σ := (σ.nA 4 L').aR σ.sz g) g1 o1 o2 (Nat.le_trans hlo (by show l ≤ σ.sz; omega)) (by show (σ.nA 4 L').ln σ.sz = 10 ∨ (σ.nA 4 L').ln σ.sz = 15 ∨ (σ.nA 4 L').ln σ.sz = 22; rw [l2]; exact hlen) nof, (f1.aR (Or.inr (Nat.le_refl _))).sR (Or.inl rfl)⟩
  unfold sJ2_grow
  rw [g18_6 h1, h2, kd_ob h1]
  unfold sJ2_grow_2
  rw [g1008_6 h1, h3, aN_ob h4 (by decide) (by decide), hln]
  rcases hc with ⟨rfl, rfl⟩ | hc
  · have hk : σ.ks 60 = some d := by
      rcases hown with q | ⟨q1, q2, q3⟩
      · exact q.1
      · omega
    have hlen : mxI 10 (nI 0 + 1) = nI 10 := by decide
    obtain ⟨gw, fe⟩ := fin (σ.nA 4 10) (Or.inl rfl)
    rw [if_neg (show ¬ (0 : Int32) < nI 0 by decide), g1008_6 h1, h3, if_pos hk.symm, hlen, nwA_ap hr1 (by omega) (by decide), p1008_6 (σ := σ.nA 4 10) (by show up1 σ.ob σ.sz 4 l = 6; rw [up1_ne (by omega)]; exact h1) hlo, bd_s]
    refine ⟨_, rfl, fe, gw, if_pos ⟨rfl, rfl⟩, up1_eq, up1_eq, by show up1 σ.ob σ.sz 4 l = 6; rw [up1_ne (by omega)]; exact h1, fun i hi => by omega, rfl, by show (σ.rs - 10) + 22 ≥ σ.rs; omega, h2⟩
  · have hL : L' ≤ 22 := by omega
    have hn0 : 0 < n := by omega
    have hnl : sJ7_newLength σ (nI n) (nI n + 1 - nI n) (nI n >>> (1 &&& 31)) = some (nI L') := by
      rcases hc with ⟨rfl, rfl⟩ | ⟨rfl, rfl⟩ <;> rfl
    have hnlt : n < L' := by omega
    have hmn : mnI (nI n) (nI L') = nI n := if_neg (nI_nlt (by omega) (by omega))
    have oA : (σ.nA 4 L').ob d = 4 := by show up1 σ.ob σ.sz 4 d = 4; rw [up1_ne (by omega)]; exact h4
    have oB : (σ.nA 4 L').ob σ.sz = 4 := up1_eq
    have lA : (σ.nA 4 L').ln d = n := by show up1 σ.ln σ.sz L' d = n; rw [up1_ne (by omega)]; exact hln
    have lB : (σ.nA 4 L').ln σ.sz = L' := up1_eq
    have aA : ∀ i, (σ.nA 4 L').ar d i = σ.ar d i := fun i => by show up1 σ.ar σ.sz _ d i = _; rw [up1_ne (by omega)]
    have hok : ∀ i, i < n → okR (σ.nA 4 L') ((σ.nA 4 L').ar d (0 + i)) = true := fun i hi => by
      rw [Nat.zero_add, aA, h6 i hi]
      have := hE i hi
      have hne : f i ≠ σ.sz := by have := hg.1 (f i) (by omega); omega
      exact okR_s (by show 5 ≤ up1 σ.ob σ.sz 4 (f i); rw [up1_ne hne]; omega) (by show up1 σ.ob σ.sz 4 (f i) < 22; rw [up1_ne hne]; omega)
    obtain ⟨gw, fe⟩ := fin ((σ.nA 4 L').aR σ.sz (cpF ((σ.nA 4 L').ar d) ((σ.nA 4 L').ar σ.sz) 0 0 n)) (Or.inr ⟨_, rfl⟩)
    rw [if_pos (show (0 : Int32) < nI n from nI_lt (a := 0) hn0 (by omega)), hnl, bp_s, g1008_6 h1, h3]
    unfold sJ9_copyOf_2 sJ9_copyOf_3 gtC
    rw [xN_s, decide_eq_true h4, if_pos rfl, if_pos rfl, nwA_ap hr1 (by omega) (by omega), aN_ob oA (by decide) (by decide), lA, hmn, show (0 : Int32) = nI 0 from rfl, cpR_ap oA oB (by omega) (by omega) (by show σ.lo ≤ σ.sz; omega) (by decide) (by decide) (by omega) hok, bd_s, bd_s, p1008_6 (σ := (σ.nA 4 L').aR σ.sz _) (by show up1 σ.ob σ.sz 4 l = 6; rw [up1_ne (by omega)]; exact h1) hlo, bd_s]
    refine ⟨_, rfl, fe, gw, if_pos ⟨rfl, rfl⟩, up1_eq, up1_eq, by show up1 σ.ob σ.sz 4 l = 6; rw [up1_ne (by omega)]; exact h1, fun i hi => ?_, rfl, by show (σ.rs - L') + 22 ≥ σ.rs; omega, h2⟩
    rw [ar_sR, ar_aR, up1_eq]
    unfold cpF
    rw [if_pos (by omega), show 0 + (i - 0) = i by omega, aA]
    exact h6 i hi
theorem L_add {l n e : Nat} {f : Nat → Nat} (hL : LQ σ l n f) (hg : GW σ) (hE : ∀ i, i < n → 5 ≤ σ.ob (f i) ∧ σ.ob (f i) < 22) (he : 5 ≤ σ.ob e ∧ σ.ob e < 22) (hn : n ≤ 16) (hr1 : 1 ≤ σ.rc) (hr2 : 22 ≤ σ.rs) : ∃ τ, sJ2_add σ l (some e) = some (τ, 1) ∧ FE (EL σ l) σ τ ∧ GW τ ∧ LQ τ l (n + 1) (upA f n e) ∧ σ.rc ≤ τ.rc + 1 ∧ σ.rs ≤ τ.rs + 22 := by
  obtain ⟨h1, h2, d, h3, h4, h5, h6⟩ := id hL
  obtain ⟨hlo, d', e', -, hown⟩ := hg.2 l h1
  rw [h3] at e'
  cases e'
  have hls : l < σ.sz := hg.1 l (by omega)
  have hds : d < σ.sz := hg.1 d (by omega)
  have hes : e < σ.sz := hg.1 e (by omega)
  have hld : l ≠ d := fun q => by rw [q, h4] at h1; exact absurd h1 (by decide)
  generalize hs2 : σ.sI 17 l (σ.fi 17 l + 1) = s2
  have f2 : FE (EL σ l) σ s2 := by rw [← hs2]; exact (FE.rf σ).sI (Or.inl rfl)
  have g2 : GW s2 := by rw [← hs2]; exact hg.sI
  have L2 : LQ s2 l n f := by rw [← hs2]; exact ⟨h1, (fi_ne (by decide)).trans h2, d, h3, h4, h5, h6⟩
  have o2 : s2.ob = σ.ob := by rw [← hs2]; rfl
  have z2 : s2.sz = σ.sz ∧ s2.rc = σ.rc ∧ s2.rs = σ.rs ∧ s2.lo = σ.lo ∧ s2.ln = σ.ln ∧ s2.fr = σ.fr ∧ s2.ar = σ.ar := by rw [← hs2]; exact ⟨rfl, rfl, rfl, rfl, rfl, rfl, rfl⟩
  obtain ⟨z2, z3, z4, z5, z6, z7, z8⟩ := z2
  have hEL : EL s2 l = EL σ l := by funext a; unfold EL; rw [z7, z6]
  unfold sJ2_add
  rw [g17_6 h1, p17_6 h1 hlo, hs2, g1008_6 L2.1, show s2.fr 1008 l = some d by rw [z7]; exact h3, g18_6 L2.1, L2.2.1, kd_ob L2.1]
  unfold sJ2_add_2
  rw [aN_ob (show s2.ob d = 4 by rw [o2]; exact h4) (by decide) (by decide), z6]
  by_cases hfull : n = σ.ln d
  · have hc : ∃ L', ((n = 0 ∧ L' = 10) ∨ (n = 10 ∧ L' = 15) ∨ (n = 15 ∧ L' = 22)) ∧ n < L' := by
      rcases hown with q | ⟨q1, q2 | q2 | q2, q3⟩
      · exact ⟨10, Or.inl ⟨by omega, rfl⟩, by omega⟩
      · exact ⟨15, Or.inr (Or.inl ⟨by omega, rfl⟩), by omega⟩
      · exact ⟨22, Or.inr (Or.inr ⟨by omega, rfl⟩), by omega⟩
      · omega
    obtain ⟨L', hc, hnL⟩ := hc
    obtain ⟨τ, e1, f3, g3, a1, a2, a3, a4, a5, a6, a7, a8⟩ := grow_add L2 g2 (fun i hi => by rw [o2]; exact hE i hi) (by omega) (by omega) ⟨d, by rw [z7]; exact h3, by rw [z6]; exact hfull.symm⟩ hc
    rw [hEL] at f3
    have f4 := f2.tr f3
    have fo : τ.ob e = σ.ob e := by
      by_cases hel : EL σ l e
      · rcases hel with q | ⟨q, -⟩
        · rw [q, a4, h1]
        · rw [h3] at q; cases q; exact absurd he.1 (by omega)
      · exact (f4.2.2.2.2.2 e hes hel).1
    have hlo4 : τ.lo ≤ s2.sz := by rw [f4.1, z2]; omega
    rw [if_pos (by rw [hfull]), kd_ob L2.1, e1, bd_s, b2_s, tR_ap a2 hlo4 (by omega) (by omega) (okR_s (by omega) (by omega)), p18_6 (σ := τ.aR s2.sz _) a4 (by show τ.lo ≤ l; rw [f4.1]; exact hlo), bp_s, nI_1]
    refine ⟨_, rfl, (f4.aR (Or.inr (by omega))).sI (Or.inl rfl), g3, ⟨a4, fi_eq, s2.sz, a1, a2, by show n + 1 ≤ τ.ln s2.sz; omega, fun i hi => ?_⟩, ?_, ?_⟩
    · rw [ar_sI, ar_aR, up1_eq, upA_ap, upA_ap]
      by_cases hi2 : i = n
      · rw [if_pos hi2, if_pos hi2]
      · rw [if_neg hi2, if_neg hi2]
        exact a5 i (by omega)
    · show σ.rc ≤ τ.rc + 1
      have := f4.2.2.2.1
      omega
    · show σ.rs ≤ τ.rs + 22
      omega
  · have hlt : n < σ.ln d := by omega
    have hdlo : σ.lo ≤ d := by
      rcases hown with q | q
      · omega
      · exact q.1
    have hln : σ.ln d ≤ 22 := by
      rcases hown with q | ⟨-, q | q | q, -⟩ <;> omega
    rw [if_neg (by rw [nI_eq (by omega) (by omega)]; exact hfull), b2_s, tR_ap (by rw [o2]; exact h4) (by rw [z5]; exact hdlo) (by rw [z6]; exact hlt) (by omega) (okR_s (by rw [o2]; exact he.1) (by rw [o2]; exact he.2)), p18_6 (σ := s2.aR d _) L2.1 (by show s2.lo ≤ l; rw [z5]; exact hlo), bp_s, nI_1]
    refine ⟨_, rfl, (f2.aR (Or.inl (Or.inr ⟨h3, by omega⟩))).sI (Or.inl rfl), g2, ⟨L2.1, fi_eq, d, by show s2.fr 1008 l = _; rw [z7]; exact h3, by show s2.ob d = 4; rw [o2]; exact h4, by show n + 1 ≤ s2.ln d; rw [z6]; omega, fun i hi => ?_⟩, ?_, ?_⟩
    · rw [ar_sI, ar_aR, up1_eq, upA_ap, upA_ap, z8]
      by_cases hi2 : i = n
      · rw [if_pos hi2, if_pos hi2]
      · rw [if_neg hi2, if_neg hi2]
        exact h6 i (by omega)
    · show σ.rc ≤ s2.rc + 1; omega
    · show σ.rs ≤ s2.rs + 22; omega
end
