/-! ACTS: remembering, noting; how an act ends -/
set_option maxRecDepth 100000
section
variable {x mo : Nat} {σ sx s0 sm : St} {w : Nat → Nat → Nat} {R S T : Nat → Nat}
/-- what an act may change at the component: the desk, its two lists -/
def EA (sx : St) (x a : Nat) : Prop := a = x ∨ EL sx (x + 2) a ∨ EL sx (x + 3) a
theorem EA.no {a : Nat} (h : XO sx x) (hg : GW sx) (h5 : sx.ob a ≠ 5) (h6 : sx.ob a ≠ 6) (h4 : sx.ob a ≠ 4) : ¬ EA sx x a := by
  have o2 := h.2.2.2.1.2.1
  have o3 := h.2.2.2.1.2.2.1
  rintro (rfl | (rfl | ⟨q, -⟩) | rfl | ⟨q, -⟩)
  · exact h5 h.1
  · exact h6 o2
  · obtain ⟨-, d, e, e4, -⟩ := hg.2 _ o2
    rw [q] at e; cases e; exact h4 e4
  · exact h6 o3
  · obtain ⟨-, d, e, e4, -⟩ := hg.2 _ o3
    rw [q] at e; cases e; exact h4 e4
theorem EA.nol {l : Nat} (h : XO sx x) (hg : GW sx) (hl : sx.ob l = 6) (h2 : l ≠ x + 2) (h3 : l ≠ x + 3) : ¬ EA sx x l ∧ ∀ d, sx.fr 1008 l = some d → ¬ EA sx x d := by
  have o2 := h.2.2.2.1.2.1
  have o3 := h.2.2.2.1.2.2.1
  refine ⟨?_, fun d hd => ?_⟩
  · rintro (rfl | (q | ⟨q, -⟩) | q | ⟨q, -⟩)
    · rw [h.1] at hl; exact absurd hl (by decide)
    · exact h2 q
    · obtain ⟨-, d, e, e4, -⟩ := hg.2 _ o2
      rw [q] at e; cases e; rw [hl] at e4; exact absurd e4 (by decide)
    · exact h3 q
    · obtain ⟨-, d, e, e4, -⟩ := hg.2 _ o3
      rw [q] at e; cases e; rw [hl] at e4; exact absurd e4 (by decide)
  · have e4 : sx.ob d = 4 := by
      obtain ⟨-, d', e, e4, -⟩ := hg.2 _ hl
      rw [hd] at e; cases e; exact e4
    rintro (rfl | q | q)
    · rw [h.1] at e4; exact absurd e4 (by decide)
    · exact EL.no hg hl o2 h2 hd q
    · exact EL.no hg hl o3 h3 hd q
theorem SH.fe {τ : St} {E : Nat → Prop} {s t : Nat} (h : SH σ s t) (hf : FE E σ τ) (hg : GW σ) (h1 : ¬ E s) (h2 : ¬ E (s + 1)) : SH τ s t := by
  have a1 := hf.2.2.2.2.2 s (hg.1 s (by rw [h.1]; decide)) h1
  have a2 := hf.2.2.2.2.2 (s + 1) (hg.1 (s + 1) (by rw [h.2.2.2.2.1]; decide)) h2
  exact ⟨by rw [a1.1]; exact h.1, by rw [hf.1]; exact h.2.1, (a1.2.2.2.1 _).trans h.2.2.1, (a1.2.2.2.1 _).trans h.2.2.2.1, by rw [a2.1]; exact h.2.2.2.2.1, by rw [a2.2.1]; exact h.2.2.2.2.2⟩
theorem SC.fe {τ : St} {E : Nat → Prop} {s t : Nat} (hs : SH σ s t) (h : SC σ s S) (hf : FE E σ τ) (hg : GW σ) (h1 : ¬ E s) (h2 : ¬ E (s + 1)) : SC τ s S := by
  have a1 := hf.2.2.2.2.2 s (hg.1 s (by rw [hs.1]; decide)) h1
  have a2 := hf.2.2.2.2.2 (s + 1) (hg.1 (s + 1) (by rw [hs.2.2.2.2.1]; decide)) h2
  exact ⟨fun p hp => by rw [a2.2.2.2.2.1]; exact h.1 p hp, (a1.2.2.1 _).trans h.2.1, (a1.2.2.1 _).trans h.2.2⟩
theorem EA.sh {s t : Nat} (hx : XO sx x) (hg : GW sx) (h : SH sx s t) : ¬ EA sx x s ∧ ¬ EA sx x (s + 1) :=
  ⟨EA.no hx hg (by rw [h.1]; decide) (by rw [h.1]; decide) (by rw [h.1]; decide), EA.no hx hg (by rw [h.2.2.2.2.1]; decide) (by rw [h.2.2.2.2.1]; decide) (by rw [h.2.2.2.2.1]; decide)⟩
/-- a town lies on, whatever an act does -/
theorem XT.fe {τ : St} (h : XT sx w R) (hx : XO sx x) (hg : GW sx) (hf : FE (EA sx x) sx τ) (hw : WF R) (ha : x + 5 < w 0 0 ∧ ∀ p, p < R 3 → x + 5 < w 1 p) : XT τ w R := by
  obtain ⟨t1, t2, t3, ⟨⟨f1, l1⟩, l2, l3, l4⟩, t5, t6, t7, t8⟩ := h
  have ag : ∀ a, sx.ob a ≠ 0 → sx.ob a ≠ 5 → sx.ob a ≠ 6 → sx.ob a ≠ 4 → Ag sx τ a := fun a h0 h5 h6 h4 => hf.2.2.2.2.2 a (hg.1 a h0) (EA.no hx hg h5 h6 h4)
  have lq : ∀ {l n : Nat} {f : Nat → Nat}, LQ sx l n f → x + 5 < l → LQ τ l n f := fun h hl => by
    have := EA.nol hx hg h.1 (by omega) (by omega)
    exact h.fe hf hg this.1 this.2
  have a0 := ag (w 0 0) (by rw [t1]; decide) (by rw [t1]; decide) (by rw [t1]; decide) (by rw [t1]; decide)
  have a5 := ag (w 0 0 + 5) (by rw [t5.1]; decide) (by rw [t5.1]; decide) (by rw [t5.1]; decide) (by rw [t5.1]; decide)
  refine ⟨by rw [a0.1]; exact t1, by simp only [a0.2.2.1]; exact t2, by simp only [a0.2.2.2.1]; exact t3, ⟨⟨f1, lq l1 (by omega)⟩, lq l2 (by omega), lq l3 (by omega), lq l4 (by omega)⟩, by rw [a5.1, a5.2.1, a5.2.2.2.2.1]; exact t5, fun k hk => ?_, fun p hp => ?_, fun q hq => ?_⟩
  · have h := t6 k hk
    have a := ag (w 3 k) (by rw [h.1]; decide) (by rw [h.1]; decide) (by rw [h.1]; decide) (by rw [h.1]; decide)
    rw [a.1, a.2.2.1, a.2.2.1]; exact h
  · have h := t7 p hp
    have hk := (hw.2.2.2.2.2.2.2.2.2.1 p hp).1
    obtain ⟨o0, -, -, -, -, -, ⟨o1, -, o2, -⟩, -⟩ := id h
    have a := ag (w 1 p) (by omega) (by omega) (by omega) (by omega)
    have b := ag (w 1 p + 1) (by omega) (by omega) (by omega) (by omega)
    have c := ag (w 1 p + 2) (by omega) (by omega) (by omega) (by omega)
    unfold XP at h ⊢
    simp only [a.1, a.2.2.1, a.2.2.2.1, b.1, b.2.1, b.2.2.2.2.1, c.1, c.2.1, c.2.2.2.2.1]
    exact h
  · have h := t8 q hq
    have a := ag (w 2 q) (by rw [h.1]; decide) (by rw [h.1]; decide) (by rw [h.1]; decide) (by rw [h.1]; decide)
    unfold XR at h ⊢
    simp only [a.1, a.2.2.1]
    exact h
theorem KS.fe {τ : St} {E : Nat → Prop} (h : KS σ) (hf : FE E σ τ) (hg : GW σ) (hlo : ∀ a, a < σ.lo → ¬ E a) : KS τ := by
  obtain ⟨k1, c, k2, k3, k4, k5⟩ := h
  have ag : ∀ a, σ.ob a ≠ 0 → a < σ.lo → Ag σ τ a := fun a h0 h => hf.2.2.2.2.2 a (hg.1 a h0) (hlo a h)
  have ac := ag c (by omega) k3
  refine ⟨fun i hi => ?_, c, by rw [hf.2.1]; exact k2, by rw [hf.1]; exact k3, by rw [ac.1]; exact k4, by rw [ac.2.1]; exact k5⟩
  obtain ⟨a, a1, a2, a3, a4, a5, b, a6, a7, a8, a9, a10⟩ := k1 i hi
  have aa := ag a (by omega) a2
  have ab := ag b (by omega) a7
  exact ⟨a, by rw [hf.2.1]; exact a1, by rw [hf.1]; exact a2, by rw [aa.1]; exact a3, (aa.2.2.1 _).trans a4, fun hi0 => ⟨(aa.2.2.1 _).trans (a5 hi0).1, (aa.2.2.1 _).trans (a5 hi0).2⟩, b, (aa.2.2.2.1 _).trans a6, by rw [hf.1]; exact a7, by rw [ab.1]; exact a8, by rw [ab.2.1]; exact a9, fun j hj => by rw [ab.2.2.2.2.1]; exact a10 j hj⟩
theorem EA.lo (hx : XO sx x) (hg : GW sx) : ∀ a, a < sx.lo → ¬ EA sx x a := by
  have o2 := hx.2.2.2.1.2.1
  have o3 := hx.2.2.2.1.2.2.1
  have hl := hx.2.1
  have hd : ∀ l d, sx.ob l = 6 → sx.fr 1008 l = some d → sx.ln d ≠ 0 → sx.lo ≤ d := fun l d ho hf hn => by
    obtain ⟨-, d', e, -, q⟩ := hg.2 l ho
    rw [hf] at e; cases e
    rcases q with ⟨-, q⟩ | q
    · exact absurd q hn
    · exact q.1
  intro a ha
  rintro (rfl | (rfl | ⟨q, r⟩) | rfl | ⟨q, r⟩)
  · omega
  · omega
  · have := hd _ _ o2 q r; omega
  · omega
  · have := hd _ _ o3 q r; omega
/-- what an act does at the model: its row, rows kept, two counts -/
def Ma (mo : Nat) (σ τ : St) : Prop := τ.nn = σ.nn ∧ τ.ob = σ.ob ∧ τ.ln = σ.ln ∧ τ.fr = σ.fr ∧ (∀ a, a ≠ mo + 5 → a ≠ mo + 6 → a ≠ mo + 7 → τ.ai a = σ.ai a) ∧ ∀ F a, F ≠ 32 → F ≠ 33 → τ.fi F a = σ.fi F a
theorem Ma.rf (mo : Nat) (σ : St) : Ma mo σ σ := ⟨rfl, rfl, rfl, rfl, fun _ _ _ _ => rfl, fun _ _ _ _ => rfl⟩
theorem Ma.tr {σ τ υ : St} (h : Ma mo σ τ) (k : Ma mo τ υ) : Ma mo σ υ := ⟨k.1.trans h.1, k.2.1.trans h.2.1, k.2.2.1.trans h.2.2.1, k.2.2.2.1.trans h.2.2.2.1, fun a h1 h2 h3 => (k.2.2.2.2.1 a h1 h2 h3).trans (h.2.2.2.2.1 a h1 h2 h3), fun F a h1 h2 => (k.2.2.2.2.2 F a h1 h2).trans (h.2.2.2.2.2 F a h1 h2)⟩
theorem Ma.sI {σ τ : St} (h : Ma mo σ τ) {F a : Nat} {v : Int32} (hF : F = 32 ∨ F = 33) : Ma mo σ (τ.sI F a v) :=
  h.tr ⟨rfl, rfl, rfl, rfl, fun _ _ _ _ => rfl, fun G b h1 h2 => fi_ne (by omega)⟩
theorem Ma.aI {σ τ : St} (h : Ma mo σ τ) {a : Nat} {g : Nat → Int32} (ha : a = mo + 5 ∨ a = mo + 6 ∨ a = mo + 7) : Ma mo σ (τ.aI a g) :=
  h.tr ⟨rfl, rfl, rfl, rfl, fun b h1 h2 h3 => up1_ne (by omega), fun _ _ _ _ => rfl⟩
theorem Ma.ms {σ τ : St} (h : Ma mo σ τ) (hm : MS σ mo) : MS τ mo := by
  obtain ⟨h1, h2, h3, h4, -⟩ := h
  have e : τ.lo = σ.lo := by simp only [St.lo, h1]
  unfold MS
  rw [h2, h3, h4, e]
  exact hm
theorem Ma.ks {σ τ : St} (h : Ma mo σ τ) (hm : σ.lo ≤ mo) (hk : KS σ) : KS τ := by
  obtain ⟨k1, c, k2, k3, k4, k5⟩ := hk
  have e1 : τ.lo = σ.lo := by simp only [St.lo, h.1]
  have e2 : τ.ks = σ.ks := by simp only [St.ks, h.1]
  obtain ⟨h3, h4, h5, h6, h7, h8⟩ := h
  refine ⟨fun i hi => ?_, c, by rw [e2]; exact k2, by rw [e1]; exact k3, by rw [h4]; exact k4, by rw [h5]; exact k5⟩
  obtain ⟨a, a1, a2, a3, a4, a5, b, a6, a7, a8, a9, a10⟩ := k1 i hi
  exact ⟨a, by rw [e2]; exact a1, by rw [e1]; exact a2, by rw [h4]; exact a3, (h8 60 a (by decide) (by decide)).trans a4, fun hi0 => ⟨(h8 61 a (by decide) (by decide)).trans (a5 hi0).1, (h8 62 a (by decide) (by decide)).trans (a5 hi0).2⟩, b, by rw [h6]; exact a6, by rw [e1]; exact a7, by rw [h4]; exact a8, by rw [h5]; exact a9, fun j hj => by rw [h7 b (by omega) (by omega) (by omega)]; exact a10 j hj⟩
/-- the desk's row with another scene -/
def wN (w : Nat → Nat → Nat) (ns : Nat) : Nat → Nat → Nat := fun i j => if i = 0 ∧ j = 1 then ns else w i j
theorem XT.wN {ns : Nat} (h : XT σ w R) : XT σ (wN w ns) R := h
/-- an act's end -/
theorem act_end {s1 s2 : St} {ns : Nat} {γ : Type} {v u : γ} (h : CT x mo sx s0 sm w R S) (hf : FE (EA sx x) sx s1) (hg : GW s1) (hxo : XO s1 x) (hfi : ∀ F, F ≠ 2 → F ≠ 3 → s1.fi F x = sx.fi F x) (h1 : s1.fr 1001 x = some (w 0 0)) (h2 : s1.fr 1002 x = some ns) (h3 : s1.fr 1003 x = some (w 0 2)) (hne : ns ≠ w 0 2) (hs : SH s1 ns (w 0 0)) (hc : SC s1 ns T) (hb : TB T) (hm : Ma mo s0 s2) (ht : AR s2 mo 5 8 T) (hp : HI s1 s2 (x + 2) (w 0 0) (w 0 2) 6 32 mo 16) (hi : HI s1 s2 (x + 3) (w 0 0) (w 0 2) 7 33 mo 3) (hv : v = u) (hr1 : sx.rc ≤ s1.rc + 18000) (hr2 : sx.rs ≤ s1.rs + 85000) : Op x mo sx sm (en s1 x 0, v) (s2, u) := by
  obtain ⟨hB, hT, h29, hnn, hfl⟩ := h
  obtain ⟨b1, b2, ⟨n, b3, b4, b5⟩, b6, b7, b8, b9, b10⟩ := hB
  have hq := hT.1
  have hmc := hT.2.1
  have hxt := hq.2.1.fe b1 b10 hf hq.wf hq.2.2.2.2.2
  have htr := EA.sh b1 b10 hq.xd.s2
  have e29 : s2.fi 29 mo = nI 0 := (hm.2.2.2.2.2 29 mo (by decide) (by decide)).trans h29
  have a1 := hf.2.2.2.2.2 (x + 1) (b10.1 _ (by rw [b1.2.2.2.1.1]; decide)) (EA.no b1 b10 (by rw [b1.2.2.2.1.1]; decide) (by rw [b1.2.2.2.1.1]; decide) (by rw [b1.2.2.2.1.1]; decide))
  have hB2 : RB x mo s1 s2 := by
    refine ⟨hxo, hm.ms b2, ⟨n, b3, (hfi 0 (by decide) (by decide)).trans b4, (hm.2.2.2.2.2 20 mo (by decide) (by decide)).trans b5⟩, ?_, fun i hi => ?_, b8.fe hf b10 (EA.lo b1 b10), hm.ks b2.2.1 b9, hg⟩
    · rw [hfi 1 (by decide) (by decide), hm.2.2.2.2.2 27 mo (by decide) (by decide)]; exact b6
    · rw [a1.2.2.2.2.1, hm.2.2.2.2.1 (mo + 1) (by omega) (by omega) (by omega)]; exact b7 i hi
  have hT2 : RT x mo s1 s2 (wN w ns) R T := by
    refine ⟨⟨⟨hxo, h1, h2, h3, hs, hq.xd.s2.fe hf b10 htr.1 htr.2, hne⟩, hxt.wN, hc, hq.wf, hb, hq.2.2.2.2.2⟩, ⟨hm.ms b2, fun i hi => ?_, ht, (hm.2.2.2.2.2 31 mo (by decide) (by decide)).trans hmc.2.2.2⟩, hp, hi⟩
    rw [hm.2.2.2.2.1 (mo + 3) (by omega) (by omega) (by omega)]
    exact hmc.2.1 i hi
  refine ⟨hv, ⟨hB2.en', ⟨?_, ?_, ?_⟩, Or.inr ⟨wN w ns, R, T, hT2.en'⟩⟩, ⟨hr1, hr2⟩, hm.1.trans hnn⟩
  · rw [e29]; exact en_3
  · rw [e29, if_neg (by decide)]; exact en_2
  · exact ⟨(en_fi (by decide) (by decide)).trans ((hfi 4 (by decide) (by decide)).trans hfl.1), (en_fi (by decide) (by decide)).trans ((hfi 5 (by decide) (by decide)).trans hfl.2.1), (en_fi (by decide) (by decide)).trans ((hfi 12 (by decide) (by decide)).trans hfl.2.2)⟩
/-- rows kept elsewhere -/
theorem HI.fe {s1 s2 : St} {l t tr b F m : Nat} (h : HI sx s0 l t tr b F mo m) (hx : XO sx x) (hg : GW sx) (hf : FE (EA sx x) sx s1) (hl : LQ sx l (h.choose) h.choose_spec.choose → LQ s1 l (h.choose) h.choose_spec.choose) (hF : s2.fi F mo = s0.fi F mo) (hb : s2.ai (mo + b) = s0.ai (mo + b)) : HI s1 s2 l t tr b F mo m := by
  obtain ⟨P, k1, k2, k3, k4⟩ := h.choose_spec.choose_spec
  refine ⟨h.choose, h.choose_spec.choose, P, k1, hl k2, hF.trans k3, fun i hi => ?_⟩
  obtain ⟨j1, j2, j3, j4, j5⟩ := k4 i hi
  have := EA.sh hx hg j1
  exact ⟨j1.fe hf hg this.1 this.2, j2, j3.fe j1 hf hg this.1 this.2, j4, fun j hj => by rw [hb]; exact j5 j hj⟩
end
