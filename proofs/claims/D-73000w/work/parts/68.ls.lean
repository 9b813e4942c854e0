/-! LISTS AND NEW SCENES: what they leave alone -/
set_option maxRecDepth 100000
/-- both heaps have the same at a -/
def Ag (σ τ : St) (a : Nat) : Prop := τ.ob a = σ.ob a ∧ τ.ln a = σ.ln a ∧ (∀ F, τ.fi F a = σ.fi F a) ∧ (∀ F, τ.fr F a = σ.fr F a) ∧ τ.ai a = σ.ai a ∧ τ.ar a = σ.ar a
/-- a later heap, the same but at the places of E and at new ones -/
def FE (E : Nat → Prop) (σ τ : St) : Prop := τ.lo = σ.lo ∧ τ.ks = σ.ks ∧ σ.sz ≤ τ.sz ∧ τ.rc + τ.sz = σ.rc + σ.sz ∧ τ.rs ≤ σ.rs ∧ ∀ a, a < σ.sz → ¬ E a → Ag σ τ a
section
variable {σ τ υ : St} {E E' : Nat → Prop} {α : Type}
theorem Ag.rf (σ : St) (a : Nat) : Ag σ σ a := ⟨rfl, rfl, fun _ => rfl, fun _ => rfl, rfl, rfl⟩
theorem Ag.tr {a : Nat} (h : Ag σ τ a) (k : Ag τ υ a) : Ag σ υ a := ⟨k.1.trans h.1, k.2.1.trans h.2.1, fun F => (k.2.2.1 F).trans (h.2.2.1 F), fun F => (k.2.2.2.1 F).trans (h.2.2.2.1 F), k.2.2.2.2.1.trans h.2.2.2.2.1, k.2.2.2.2.2.trans h.2.2.2.2.2⟩
theorem FE.rf (σ : St) : FE E σ σ := ⟨rfl, rfl, Nat.le_refl _, rfl, Nat.le_refl _, fun a _ _ => Ag.rf σ a⟩
theorem FE.tr (h : FE E σ τ) (k : FE E τ υ) : FE E σ υ := by
  obtain ⟨h1, h2, h3, h4, h5, h6⟩ := h
  obtain ⟨k1, k2, k3, k4, k5, k6⟩ := k
  exact ⟨k1.trans h1, k2.trans h2, by omega, by omega, by omega, fun a ha hn => (h6 a ha hn).tr (k6 a (by omega) hn)⟩
theorem FE.mono (h : FE E σ τ) (hE : ∀ a, a < σ.sz → E a → E' a) : FE E' σ τ :=
  ⟨h.1, h.2.1, h.2.2.1, h.2.2.2.1, h.2.2.2.2.1, fun a ha hn => h.2.2.2.2.2 a ha (fun q => hn (hE a ha q))⟩
theorem FE.sI (h : FE E σ τ) {F a : Nat} {v : Int32} (ha : E a) : FE E σ (τ.sI F a v) := by
  refine ⟨h.1, h.2.1, h.2.2.1, h.2.2.2.1, h.2.2.2.2.1, fun b hb hn => ?_⟩
  have := h.2.2.2.2.2 b hb hn
  refine ⟨this.1, this.2.1, fun G => ?_, this.2.2.2⟩
  rw [fi_sI, up2_ap, if_neg (fun q => hn (by rw [q.2]; exact ha))]
  exact this.2.2.1 G
theorem FE.sIn (h : FE E σ τ) {F a : Nat} {v : Int32} (ha : σ.sz ≤ a) : FE E σ (τ.sI F a v) := by
  refine ⟨h.1, h.2.1, h.2.2.1, h.2.2.2.1, h.2.2.2.2.1, fun b hb hn => ?_⟩
  have := h.2.2.2.2.2 b hb hn
  refine ⟨this.1, this.2.1, fun G => ?_, this.2.2.2⟩
  rw [fi_sI, up2_ap, if_neg (by omega)]
  exact this.2.2.1 G
theorem FE.sR (h : FE E σ τ) {F a : Nat} {v : Option Nat} (ha : E a) : FE E σ (τ.sR F a v) := by
  refine ⟨h.1, h.2.1, h.2.2.1, h.2.2.2.1, h.2.2.2.2.1, fun b hb hn => ?_⟩
  have := h.2.2.2.2.2 b hb hn
  refine ⟨this.1, this.2.1, this.2.2.1, fun G => ?_, this.2.2.2.2⟩
  rw [fr_sR, up2_ap, if_neg (fun q => hn (by rw [q.2]; exact ha))]
  exact this.2.2.2.1 G
theorem FE.sRn (h : FE E σ τ) {F a : Nat} {v : Option Nat} (ha : σ.sz ≤ a) : FE E σ (τ.sR F a v) := by
  refine ⟨h.1, h.2.1, h.2.2.1, h.2.2.2.1, h.2.2.2.2.1, fun b hb hn => ?_⟩
  have := h.2.2.2.2.2 b hb hn
  refine ⟨this.1, this.2.1, this.2.2.1, fun G => ?_, this.2.2.2.2⟩
  rw [fr_sR, up2_ap, if_neg (by omega)]
  exact this.2.2.2.1 G
theorem FE.aR (h : FE E σ τ) {a : Nat} {g : Nat → Option Nat} (ha : E a ∨ σ.sz ≤ a) : FE E σ (τ.aR a g) := by
  refine ⟨h.1, h.2.1, h.2.2.1, h.2.2.2.1, h.2.2.2.2.1, fun b hb hn => ?_⟩
  have := h.2.2.2.2.2 b hb hn
  refine ⟨this.1, this.2.1, this.2.2.1, this.2.2.2.1, this.2.2.2.2.1, ?_⟩
  rw [ar_aR, up1_ne (fun q => ha.elim (fun e => hn (by rw [q]; exact e)) (fun e => by omega))]
  exact this.2.2.2.2.2
theorem FE.aI (h : FE E σ τ) {a : Nat} {g : Nat → Int32} (ha : E a ∨ σ.sz ≤ a) : FE E σ (τ.aI a g) := by
  refine ⟨h.1, h.2.1, h.2.2.1, h.2.2.2.1, h.2.2.2.2.1, fun b hb hn => ?_⟩
  have := h.2.2.2.2.2 b hb hn
  refine ⟨this.1, this.2.1, this.2.2.1, this.2.2.2.1, ?_, this.2.2.2.2.2⟩
  rw [ai_aI, up1_ne (fun q => ha.elim (fun e => hn (by rw [q]; exact e)) (fun e => by omega))]
  exact this.2.2.2.2.1
theorem FE.nO (h : FE E σ τ) {c n : Nat} (hr : 1 ≤ τ.rc) : FE E σ (τ.nO c n) := by
  obtain ⟨h1, h2, h3, h4, h5, h6⟩ := h
  refine ⟨h1, h2, Nat.le_trans h3 (Nat.le_succ _), ?_, ?_, fun b hb hn => ?_⟩
  · show (τ.rc - 1) + (τ.sz + 1) = _; omega
  · show τ.rs - n ≤ _; omega
  · have := h6 b hb hn
    have hne : b ≠ τ.sz := by omega
    refine ⟨?_, this.2.1, fun G => ?_, fun G => ?_, this.2.2.2.2⟩
    · show up1 τ.ob τ.sz c b = _
      rw [up1_ne hne]; exact this.1
    · show (if b = τ.sz then 0 else τ.fi G b) = _
      rw [if_neg hne]; exact this.2.2.1 G
    · show (if b = τ.sz then none else τ.fr G b) = _
      rw [if_neg hne]; exact this.2.2.2.1 G
theorem FE.nA (h : FE E σ τ) {c n : Nat} (hr : 1 ≤ τ.rc) : FE E σ (τ.nA c n) := by
  obtain ⟨h1, h2, h3, h4, h5, h6⟩ := h
  refine ⟨h1, h2, Nat.le_trans h3 (Nat.le_succ _), ?_, ?_, fun b hb hn => ?_⟩
  · show (τ.rc - 1) + (τ.sz + 1) = _; omega
  · show τ.rs - n ≤ _; omega
  · have := h6 b hb hn
    have hne : b ≠ τ.sz := by omega
    refine ⟨?_, ?_, this.2.2.1, this.2.2.2.1, ?_, ?_⟩
    · show up1 τ.ob τ.sz c b = _
      rw [up1_ne hne]; exact this.1
    · show up1 τ.ln τ.sz n b = _
      rw [up1_ne hne]; exact this.2.1
    · show up1 τ.ai τ.sz _ b = _
      rw [up1_ne hne]; exact this.2.2.2.2.1
    · show up1 τ.ar τ.sz _ b = _
      rw [up1_ne hne]; exact this.2.2.2.2.2
/-- new objects, new arrays -/
theorem nwO_ap {c n : Nat} (h1 : 1 ≤ σ.rc) (h2 : n ≤ σ.rs) (k : St → Nat → Option α) : nwO σ c n k = k (σ.nO c n) σ.sz := by
  show (if decide (1 ≤ σ.rc) && decide (n ≤ σ.rs) then _ else none) = _
  rw [decide_eq_true h1, decide_eq_true h2]; rfl
theorem nwA_ap {c n : Nat} (h1 : 1 ≤ σ.rc) (h2 : n ≤ σ.rs) (h3 : n < 60000000) (k : St → Nat → Option α) : nwA σ c (nI n) k = k (σ.nA c n) σ.sz := by
  show (if inB (nI n) 60000000 && (decide (1 ≤ σ.rc) && decide ((nI n).toNatClampNeg ≤ σ.rs)) then k (σ.nA c (nI n).toNatClampNeg) σ.sz else none) = _
  rw [nI_clamp (by omega), inB_nI h3 (by omega), decide_eq_true h1, decide_eq_true h2]; rfl
theorem tR_ap {a n e : Nat} (h1 : σ.ob a = 4) (h0 : σ.lo ≤ a) (hn : n < σ.ln a) (h3 : n < 2147483648) (he : okR σ (some e) = true) (k : St → Option α) : tR σ (some a) (nI n) (some e) k = k (σ.aR a (upA (σ.ar a) n (some e))) := by
  show (if (decide (σ.ob a = 4) && inB (nI n) (σ.ln a)) && (decide (σ.lo ≤ a) && okR σ (some e)) then k (σ.aR a (upA (σ.ar a) (nI n).toNatClampNeg (some e))) else none) = _
  rw [decide_eq_true h1, inB_nI hn h3, nI_clamp h3, decide_eq_true h0, he]; rfl
theorem tR_no {a n : Nat} (h1 : σ.ob a = 4) (h0 : σ.lo ≤ a) (hn : n < σ.ln a) (h3 : n < 2147483648) (k : St → Option α) : tR σ (some a) (nI n) none k = k (σ.aR a (upA (σ.ar a) n none)) := by
  show (if (decide (σ.ob a = 4) && inB (nI n) (σ.ln a)) && (decide (σ.lo ≤ a) && okR σ none) then k (σ.aR a (upA (σ.ar a) (nI n).toNatClampNeg none)) else none) = _
  rw [decide_eq_true h1, inB_nI hn h3, nI_clamp h3, decide_eq_true h0]; rfl
theorem okR_s {e : Nat} (h1 : 5 ≤ σ.ob e) (h2 : σ.ob e < 22) : okR σ (some e) = true := by
  show (decide (5 ≤ σ.ob e) && decide (σ.ob e < 22)) = true
  rw [decide_eq_true h1, decide_eq_true h2]; rfl
theorem cpR_ap {a b sp dp n : Nat} (ha : σ.ob a = 4) (hb : σ.ob b = 4) (h1 : sp + n ≤ σ.ln a) (h2 : dp + n ≤ σ.ln b) (hl : σ.lo ≤ b) (h3 : sp < 2147483648) (h4 : dp < 2147483648) (h5 : n < 2147483648) (hok : ∀ i, i < n → okR σ (σ.ar a (sp + i)) = true) (k : St → Option α) : cpR σ (some a) (nI sp) (some b) (nI dp) (nI n) k = k (σ.aR b (cpF (σ.ar a) (σ.ar b) sp dp n)) := by
  show (if cpOK σ 4 a b (nI sp) (nI dp) (nI n) && ((List.range (nI n).toNatClampNeg).all fun i => okR σ (σ.ar a ((nI sp).toNatClampNeg + i))) then k (σ.aR b (cpF (σ.ar a) (σ.ar b) (nI sp).toNatClampNeg (nI dp).toNatClampNeg (nI n).toNatClampNeg)) else none) = _
  have e : cpOK σ 4 a b (nI sp) (nI dp) (nI n) = true := by
    unfold cpOK
    rw [nI_clamp h3, nI_clamp h4, nI_clamp h5]
    simp [ha, hb, h1, h2, hl, nI_pos h3, nI_pos h4, nI_pos h5]
  have e2 : ((List.range n).all fun i => okR σ (σ.ar a (sp + i))) = true := by
    rw [List.all_eq_true]
    intro i hi
    exact hok i (List.mem_range.mp hi)
  rw [e, nI_clamp h3, nI_clamp h4, nI_clamp h5, e2]
  rfl
/-- growing leaves lists well -/
theorem GW.nO (h : GW σ) {c n : Nat} (hc : c ≠ 6) : GW (σ.nO c n) := by
  refine ⟨fun a ha => ?_, fun l hl => ?_⟩
  · show a < σ.sz + 1
    by_cases e : a = σ.sz
    · omega
    · have : σ.ob a ≠ 0 := by
        intro q
        apply ha
        show up1 σ.ob σ.sz c a = 0
        rw [up1_ne e, q]
      have := h.1 a this
      omega
  · have hne : l ≠ σ.sz := fun e => by
      rw [e] at hl
      have : up1 σ.ob σ.sz c σ.sz = 6 := hl
      rw [up1_eq] at this
      exact hc this
    have hl' : σ.ob l = 6 := by
      have : up1 σ.ob σ.sz c l = 6 := hl
      rw [up1_ne hne] at this
      exact this
    obtain ⟨h1, d, h2, h3, h4⟩ := h.2 l hl'
    have hd : d ≠ σ.sz := by have := h.1 d (by omega); omega
    refine ⟨h1, d, ?_, ?_, ?_⟩
    · show (if l = σ.sz then none else σ.fr 1008 l) = some d
      rw [if_neg hne]; exact h2
    · show up1 σ.ob σ.sz c d = 4
      rw [up1_ne hd]; exact h3
    · rcases h4 with q | ⟨q1, q2, q3⟩
      · exact Or.inl q
      · refine Or.inr ⟨q1, q2, fun l' hl' hf => ?_⟩
        have hne' : l' ≠ σ.sz := fun e => by
          rw [e] at hl'
          have : up1 σ.ob σ.sz c σ.sz = 6 := hl'
          rw [up1_eq] at this
          exact hc this
        refine q3 l' ?_ ?_
        · have : up1 σ.ob σ.sz c l' = 6 := hl'
          rw [up1_ne hne'] at this
          exact this
        · have : (if l' = σ.sz then none else σ.fr 1008 l') = some d := hf
          rw [if_neg hne'] at this
          exact this
theorem GW.nA (h : GW σ) {c n : Nat} (hc : c ≠ 6) : GW (σ.nA c n) := by
  refine ⟨fun a ha => ?_, fun l hl => ?_⟩
  · show a < σ.sz + 1
    by_cases e : a = σ.sz
    · omega
    · have : σ.ob a ≠ 0 := by
        intro q
        apply ha
        show up1 σ.ob σ.sz c a = 0
        rw [up1_ne e, q]
      have := h.1 a this
      omega
  · have hne : l ≠ σ.sz := fun e => by
      rw [e] at hl
      have : up1 σ.ob σ.sz c σ.sz = 6 := hl
      rw [up1_eq] at this
      exact hc this
    have hl' : σ.ob l = 6 := by
      have : up1 σ.ob σ.sz c l = 6 := hl
      rw [up1_ne hne] at this
      exact this
    obtain ⟨h1, d, h2, h3, h4⟩ := h.2 l hl'
    have hd : d ≠ σ.sz := by have := h.1 d (by omega); omega
    refine ⟨h1, d, h2, ?_, ?_⟩
    · show up1 σ.ob σ.sz c d = 4
      rw [up1_ne hd]; exact h3
    · have el : (σ.nA c n).ln d = σ.ln d := by show up1 σ.ln σ.sz n d = _; rw [up1_ne hd]
      rw [el]
      rcases h4 with q | ⟨q1, q2, q3⟩
      · exact Or.inl q
      · refine Or.inr ⟨q1, q2, fun l' hl' hf => ?_⟩
        have hne' : l' ≠ σ.sz := fun e => by
          rw [e] at hl'
          have : up1 σ.ob σ.sz c σ.sz = 6 := hl'
          rw [up1_eq] at this
          exact hc this
        refine q3 l' ?_ hf
        have : up1 σ.ob σ.sz c l' = 6 := hl'
        rw [up1_ne hne'] at this
        exact this
/-- a list gets a new array of its own -/
theorem GW.own (h : GW σ) {l d : Nat} (hl : σ.ob l = 6) (hd : σ.ob d = 4) (hlo : σ.lo ≤ d) (hln : σ.ln d = 10 ∨ σ.ln d = 15 ∨ σ.ln d = 22) (hno : ∀ l', σ.ob l' = 6 → σ.fr 1008 l' ≠ some d) : GW (σ.sR 1008 l (some d)) := by
  refine ⟨h.1, fun l' hl' => ?_⟩
  obtain ⟨h1, d', h2, h3, h4⟩ := h.2 l' hl'
  by_cases e : l' = l
  · subst e
    refine ⟨h1, d, by rw [fr_sR, up2_ap, if_pos ⟨rfl, rfl⟩], hd, Or.inr ⟨hlo, hln, fun l2 hl2 hf => ?_⟩⟩
    by_cases e2 : l2 = l'
    · exact e2
    · rw [fr_sR, up2_ap, if_neg (fun q => e2 q.2)] at hf
      exact absurd hf (hno l2 hl2)
  · refine ⟨h1, d', by rw [fr_sR, up2_ap, if_neg (fun q => e q.2)]; exact h2, h3, ?_⟩
    rcases h4 with q | ⟨q1, q2, q3⟩
    · exact Or.inl q
    · refine Or.inr ⟨q1, q2, fun l2 hl2 hf => ?_⟩
      by_cases e2 : l2 = l
      · subst e2
        rw [fr_sR, up2_ap, if_pos ⟨rfl, rfl⟩] at hf
        cases hf
        exact absurd h2 (hno l' hl')
      · rw [fr_sR, up2_ap, if_neg (fun q => e2 q.2)] at hf
        exact q3 l2 hl2 hf
end
