/-! OPERATIONS: how a call of both begins and ends -/
set_option maxRecDepth 100000
def gd (σ : St) (mo : Nat) : St := (σ.sI 19 mo 0).sI 29 mo 0
theorem M_good {σ : St} {mo : Nat} (h : MS σ mo) : sX2_good σ mo = some (gd σ mo) := by
  unfold sX2_good
  rw [M_p19 h, M_p29 (show MS (σ.sI 19 mo _) mo from h)]
  rfl
theorem gd_ms {σ : St} {mo : Nat} (h : MS σ mo) : MS (gd σ mo) mo := h
theorem gd_fi {σ : St} {mo F a : Nat} (h1 : F ≠ 19) (h2 : F ≠ 29) : (gd σ mo).fi F a = σ.fi F a := by
  unfold gd
  rw [fi_sI, up2_ap, if_neg (fun q => h2 q.1), fi_sI, up2_ap, if_neg (fun q => h1 q.1)]
theorem gd_29 {σ : St} {mo : Nat} : (gd σ mo).fi 29 mo = nI 0 := if_pos ⟨rfl, rfl⟩
theorem gd_ks {σ : St} {mo : Nat} (h : KS σ) : KS (gd σ mo) := by
  unfold KS
  simp only [gd_fi (F := 60) (by decide) (by decide), gd_fi (F := 61) (by decide) (by decide), gd_fi (F := 62) (by decide) (by decide)]
  exact h
theorem RB.gd' {x mo : Nat} {sx sm : St} (h : RB x mo sx sm) : RB x mo sx (gd sm mo) := by
  obtain ⟨b1, b2, ⟨n, b3, b4, b5⟩, b6, b7, b8, b9, b10⟩ := h
  exact ⟨b1, gd_ms b2, ⟨n, b3, b4, by rw [gd_fi (by decide) (by decide)]; exact b5⟩, by rw [gd_fi (by decide) (by decide)]; exact b6, b7, b8, gd_ks b9, b10⟩
theorem HI.gd' {sx sm : St} {l t tr b F mo m : Nat} (h : HI sx sm l t tr b F mo m) (h1 : F ≠ 19) (h2 : F ≠ 29) : HI sx (gd sm mo) l t tr b F mo m := by
  obtain ⟨n, f, P, k1, k2, k3, k4⟩ := h
  exact ⟨n, f, P, k1, k2, by rw [gd_fi h1 h2]; exact k3, k4⟩
theorem MC.gd' {sm : St} {mo : Nat} {R S : Nat → Nat} (h : MC sm mo R S) : MC (gd sm mo) mo R S :=
  ⟨gd_ms h.1, h.2.1, h.2.2.1, by rw [gd_fi (by decide) (by decide)]; exact h.2.2.2⟩
theorem RT.gd' {x mo : Nat} {sx sm : St} {w : Nat → Nat → Nat} {R S : Nat → Nat} (h : RT x mo sx sm w R S) : RT x mo sx (gd sm mo) w R S :=
  ⟨h.1, h.2.1.gd', h.2.2.1.gd' (by decide) (by decide), h.2.2.2.gd' (by decide) (by decide)⟩
theorem R0.gd' {x mo : Nat} {sx sm : St} (h : R0 x mo sx sm) : R0 x mo sx (gd sm mo) := by
  obtain ⟨h1, h2, h3, h4, h5, h6⟩ := h
  exact ⟨h1, by rw [gd_fi (by decide) (by decide)]; exact h2, h3, h4, by rw [gd_fi (by decide) (by decide)]; exact h5, by rw [gd_fi (by decide) (by decide)]; exact h6⟩
/-- inside an operation, behind good: s0 the model's heap -/
def CT (x mo : Nat) (sx s0 sm : St) (w : Nat → Nat → Nat) (R S : Nat → Nat) : Prop := RB x mo sx s0 ∧ RT x mo sx s0 w R S ∧ s0.fi 29 mo = nI 0 ∧ s0.nn = sm.nn ∧ FL sx x none 0 false
/-- fields 2, 3 of the desk, 19, 29 of the model: the end of an operation -/
def en (σ : St) (x : Nat) (v : Int32) : St := (σ.sI 3 x v).sI 2 x (-1)
theorem en_fi {σ : St} {x F a : Nat} {v : Int32} (h1 : F ≠ 2) (h2 : F ≠ 3) : (en σ x v).fi F a = σ.fi F a := by
  unfold en
  rw [fi_sI, up2_ap, if_neg (fun q => h1 q.1), fi_sI, up2_ap, if_neg (fun q => h2 q.1)]
theorem en_3 {σ : St} {x : Nat} {v : Int32} : (en σ x v).fi 3 x = v := by
  unfold en
  rw [fi_sI, up2_ap, if_neg (by omega), fi_sI, up2_ap, if_pos ⟨rfl, rfl⟩]
theorem en_2 {σ : St} {x : Nat} {v : Int32} : (en σ x v).fi 2 x = -1 := if_pos ⟨rfl, rfl⟩
theorem en_ks {σ : St} {x : Nat} {v : Int32} (h : KS σ) : KS (en σ x v) := by
  unfold KS
  simp only [en_fi (F := 60) (by decide) (by decide), en_fi (F := 61) (by decide) (by decide), en_fi (F := 62) (by decide) (by decide)]
  exact h
theorem en_xt {σ : St} {x : Nat} {v : Int32} {w : Nat → Nat → Nat} {R : Nat → Nat} (h : XT σ w R) : XT (en σ x v) w R := by
  unfold XT XP XR LQ at h ⊢
  simp only [en_fi (F := 18) (by decide) (by decide), en_fi (F := 49) (by decide) (by decide), en_fi (F := 50) (by decide) (by decide), en_fi (F := 51) (by decide) (by decide), en_fi (F := 52) (by decide) (by decide), en_fi (F := 53) (by decide) (by decide), en_fi (F := 63) (by decide) (by decide), en_fi (F := 64) (by decide) (by decide), en_fi (F := 65) (by decide) (by decide), en_fi (F := 66) (by decide) (by decide), en_fi (F := 67) (by decide) (by decide), en_fi (F := 68) (by decide) (by decide), en_fi (F := 69) (by decide) (by decide), en_fi (F := 71) (by decide) (by decide), en_fi (F := 72) (by decide) (by decide), en_fi (F := 73) (by decide) (by decide), en_fi (F := 74) (by decide) (by decide), en_fi (F := 75) (by decide) (by decide), en_fi (F := 76) (by decide) (by decide)]
  exact h
theorem en_sc {σ : St} {x s : Nat} {v : Int32} {S : Nat → Nat} (h : SC σ s S) : SC (en σ x v) s S :=
  ⟨h.1, by rw [en_fi (by decide) (by decide)]; exact h.2.1, by rw [en_fi (by decide) (by decide)]; exact h.2.2⟩
theorem en_lq {σ : St} {x l n : Nat} {v : Int32} {f : Nat → Nat} (h : LQ σ l n f) : LQ (en σ x v) l n f :=
  ⟨h.1, by rw [en_fi (by decide) (by decide)]; exact h.2.1, h.2.2⟩
theorem RB.en' {x mo : Nat} {sx sm : St} {v : Int32} (h : RB x mo sx sm) : RB x mo (en sx x v) sm := by
  obtain ⟨b1, b2, ⟨n, b3, b4, b5⟩, b6, b7, b8, b9, b10⟩ := h
  exact ⟨b1, b2, ⟨n, b3, by rw [en_fi (by decide) (by decide)]; exact b4, b5⟩, by rw [en_fi (by decide) (by decide)]; exact b6, b7, en_ks b8, b9, b10⟩
theorem HI.en' {sx sm : St} {x l t tr b F mo m : Nat} {v : Int32} (h : HI sx sm l t tr b F mo m) : HI (en sx x v) sm l t tr b F mo m := by
  obtain ⟨n, f, P, k1, k2, k3, k4⟩ := h
  exact ⟨n, f, P, k1, en_lq k2, k3, fun i hi => ⟨(k4 i hi).1, (k4 i hi).2.1, en_sc (k4 i hi).2.2.1, (k4 i hi).2.2.2⟩⟩
theorem QC.en' {x : Nat} {sx : St} {v : Int32} {w : Nat → Nat → Nat} {R S : Nat → Nat} (h : QC sx x w R S) : QC (en sx x v) x w R S :=
  ⟨h.1, en_xt h.2.1, en_sc h.2.2.1, h.2.2.2⟩
theorem RT.en' {x mo : Nat} {sx sm : St} {v : Int32} {w : Nat → Nat → Nat} {R S : Nat → Nat} (h : RT x mo sx sm w R S) : RT x mo (en sx x v) sm w R S :=
  ⟨h.1.en', h.2.1, h.2.2.1.en', h.2.2.2.en'⟩
theorem R0.en' {x mo : Nat} {sx sm : St} {v : Int32} (h : R0 x mo sx sm) : R0 x mo (en sx x v) sm := by
  obtain ⟨h1, h2, ⟨f, h3⟩, ⟨g, h4⟩, h5, h6⟩ := h
  exact ⟨h1, h2, ⟨f, en_lq h3⟩, ⟨g, en_lq h4⟩, h5, h6⟩
theorem X_well {σ : St} {x : Nat} (hx : σ.ob x = 5) (hl : σ.lo ≤ x) (v : Int32) : sX1_well σ x v = some (en σ x 0, v) := by
  unfold sX1_well
  rw [p3_5 hx hl, p2_5 (σ := σ.sI 3 x 0) hx hl]
  rfl
theorem X_refused {σ : St} {x : Nat} (hx : σ.ob x = 5) (hl : σ.lo ≤ x) (v : Int32) : sX1_refused σ x v = some (en σ x v, -1) := by
  unfold sX1_refused
  rw [p3_5 hx hl, p2_5 (σ := σ.sI 3 x v) hx hl]
  rfl
theorem M_no {σ : St} {mo : Nat} (h : MS σ mo) (v : Int32) : sX2_no σ mo v = some (σ.sI 29 mo v, -1) := by
  unfold sX2_no
  rw [M_p29 h]
theorem f29_ks {σ : St} {mo : Nat} {v : Int32} (h : KS σ) : KS (σ.sI 29 mo v) := by
  have e : ∀ F, F ≠ 29 → ∀ a, (σ.sI 29 mo v).fi F a = σ.fi F a := fun F hF a => if_neg (fun q => hF q.1)
  unfold KS
  simp only [e 60 (by decide), e 61 (by decide), e 62 (by decide)]
  exact h
theorem RB.f29 {x mo : Nat} {sx sm : St} {v : Int32} (h : RB x mo sx sm) : RB x mo sx (sm.sI 29 mo v) := by
  have e : ∀ F, F ≠ 29 → ∀ a, (sm.sI 29 mo v).fi F a = sm.fi F a := fun F hF a => if_neg (fun q => hF q.1)
  obtain ⟨b1, b2, ⟨n, b3, b4, b5⟩, b6, b7, b8, b9, b10⟩ := h
  exact ⟨b1, b2, ⟨n, b3, b4, by rw [e 20 (by decide)]; exact b5⟩, by rw [e 27 (by decide)]; exact b6, b7, b8, f29_ks b9, b10⟩
theorem RT.f29 {x mo : Nat} {sx sm : St} {v : Int32} {w : Nat → Nat → Nat} {R S : Nat → Nat} (h : RT x mo sx sm w R S) : RT x mo sx (sm.sI 29 mo v) w R S := by
  have e : ∀ F, F ≠ 29 → ∀ a, (sm.sI 29 mo v).fi F a = sm.fi F a := fun F hF a => if_neg (fun q => hF q.1)
  obtain ⟨h1, ⟨h2, h3, h4, h5⟩, ⟨n, f, P, k1, k2, k3, k4⟩, ⟨n', f', P', k1', k2', k3', k4'⟩⟩ := h
  exact ⟨h1, ⟨h2, h3, h4, by rw [e 31 (by decide)]; exact h5⟩, ⟨n, f, P, k1, k2, by rw [e 32 (by decide)]; exact k3, k4⟩, ⟨n', f', P', k1', k2', by rw [e 33 (by decide)]; exact k3', k4'⟩⟩
theorem R0.f29 {x mo : Nat} {sx sm : St} {v : Int32} (h : R0 x mo sx sm) : R0 x mo sx (sm.sI 29 mo v) := by
  have e : ∀ F, F ≠ 29 → ∀ a, (sm.sI 29 mo v).fi F a = sm.fi F a := fun F hF a => if_neg (fun q => hF q.1)
  obtain ⟨h1, h2, h3, h4, h5, h6⟩ := h
  exact ⟨h1, by rw [e 31 (by decide)]; exact h2, h3, h4, by rw [e 32 (by decide)]; exact h5, by rw [e 33 (by decide)]; exact h6⟩
/-- the end: well against an answer -/
theorem fin_op {x mo : Nat} {sx s0 sm s1 s2 : St} {w : Nat → Nat → Nat} {R S : Nat → Nat} {γ : Type} (h : CT x mo sx s0 sm w R S) (hx : Xq x (w 0 2) sx s1) (hm : Mq mo s0 s2) (hf : FL s1 x none 0 false) {v u : γ} (hv : v = u) : Op x mo sx sm (en s1 x 0, v) (s2, u) := by
  obtain ⟨hB, hT, h29, hnn, -⟩ := h
  have hd := hT.1.1
  have htr := hd.2.2.2.2.2.1
  have hne : x + 1 ≠ w 0 2 + 1 := fun e => by
    have e2 : x = w 0 2 := by omega
    have := htr.1
    rw [← e2, hd.1.1] at this
    exact absurd this (by decide)
  have hB2 := hB.q hx hm htr.2.1 hne
  have hT2 := hT.q hx hm
  have h29' : s2.fi 29 mo = nI 0 := (hm.2.2.2.2.2.1 29 mo rfl).trans h29
  refine ⟨hv, ⟨hB2.en', ⟨?_, ?_, ?_⟩, Or.inr ⟨w, R, S, hT2.en'⟩⟩, ⟨?_, ?_⟩, hm.1.trans hnn⟩
  · rw [h29']; exact en_3
  · rw [h29', if_neg (by decide)]; exact if_pos ⟨rfl, rfl⟩
  · exact ⟨(en_fi (by decide) (by decide)).trans hf.1, (en_fi (by decide) (by decide)).trans hf.2.1, (en_fi (by decide) (by decide)).trans hf.2.2⟩
  · show sx.rc ≤ s1.rc + 18000
    simp only [St.rc, hx.1]; omega
  · show sx.rs ≤ s1.rs + 85000
    simp only [St.rs, hx.1]; omega
theorem fin_well {x mo : Nat} {sx s0 sm s1 s2 : St} {w : Nat → Nat → Nat} {R S : Nat → Nat} (h : CT x mo sx s0 sm w R S) (hx : Xq x (w 0 2) sx s1) (hm : Mq mo s0 s2) (hf : FL s1 x none 0 false) {v u : Int32} (hv : v = u) : W2 (kd s1 x 5 <| bd (sX1_well s1 x v) fun s v => some (s, v)) (some (s2, u)) (Op x mo sx sm) := by
  have ho := hx.xo h.2.1.1.1.1
  rw [kd_ob ho.1, X_well ho.1 ho.2.1, bd_s]
  exact W2_ret (fin_op h hx hm hf hv)
/-- a refusal -/
theorem RL.refuse {x mo : Nat} {sx sm : St} (h : RL x mo sx sm) (c : Int32) (hc : c ≠ 4) : RL x mo (en sx x c) ((gd sm mo).sI 29 mo c) := by
  obtain ⟨hB, ⟨h1, h2, h3⟩, hT⟩ := h
  have e29 : ((gd sm mo).sI 29 mo c).fi 29 mo = c := if_pos ⟨rfl, rfl⟩
  refine ⟨hB.gd'.f29.en', ⟨?_, ?_, ?_⟩, ?_⟩
  · rw [e29]; exact en_3
  · rw [e29, if_neg hc]; exact if_pos ⟨rfl, rfl⟩
  · exact ⟨(en_fi (by decide) (by decide)).trans h3.1, (en_fi (by decide) (by decide)).trans h3.2.1, (en_fi (by decide) (by decide)).trans h3.2.2⟩
  · rcases hT with hT | ⟨w, R, S, hT⟩
    · exact Or.inl hT.gd'.f29.en'
    · exact Or.inr ⟨w, R, S, hT.gd'.f29.en'⟩
theorem fin_ref {x mo : Nat} {sx sm : St} (h : RL x mo sx sm) (c : Int32) (hc : c ≠ 4) : W2 (kd sx x 5 <| bd (sX1_refused sx x c) fun s v => some (s, v)) (kd (gd sm mo) mo 7 <| bd (sX2_no (gd sm mo) mo c) fun s v => some (s, v)) (Op x mo sx sm) := by
  have hx := h.1.1
  have hm := gd_ms h.1.2.1
  rw [kd_ob hx.1, X_refused hx.1 hx.2.1, bd_s, M_kd hm, M_no hm, bd_s]
  exact W2_ret ⟨rfl, h.refuse c hc, ⟨by show sx.rc ≤ sx.rc + 18000; omega, by show sx.rs ≤ sx.rs + 85000; omega⟩, rfl⟩
section
variable {x mo : Nat} {sx sm : St}
/-- guards: what both ask of a number -/
theorem RL.ct (h : RL x mo sx sm) {w : Nat → Nat → Nat} {R S : Nat → Nat} (hT : RT x mo sx sm w R S) : CT x mo sx (gd sm mo) sm w R S := ⟨h.1.gd', hT.gd', gd_29, rfl, h.2.1.2.2⟩
def GQ (x mo : Nat) (sx sm : St) (b : Bool) (e1 : Option Int32) (e2 : St → Option Int32) (c : Nat) (v : Int32) : Prop := e1 = some (nI (b1 b)) ∧ e2 (gd sm mo) = some (nI (b1 b)) ∧ (b = true → ∃ w R S k, CT x mo sx (gd sm mo) sm w R S ∧ k < R c ∧ v = nI k)
theorem M_is {σ : St} {mo c : Nat} (h : MS σ mo) {R : Nat → Nat} (hr : AR σ mo 3 241 R) (ht : σ.fi 31 mo = nI 1) (hc : c < 241) (hR : R c < 2147483648) (v : Int32) : (gI σ 31 (some mo) fun v1 => if v1 = 0 then (some 0) else (gR σ 1011 (some mo) fun v2 => lI σ 1 v2 (nI c) fun v3 => bp (sX2_in σ v 0 (v3 - 1)) fun v4 => if v4 = 0 then (some 0) else (some 1))) = some (nI (b1 (isB v (R c)))) := by
  rw [M_g31 h, ht, if_neg (by decide), M_r1011 h, M_l3 h hc, hr c hc, M_in, bp_s, in_pred hR]
  cases isB v (R c) <;> rfl
theorem X_is {w : Nat → Nat → Nat} {R : Nat → Nat} {c : Nat} {e : Option Int32} (hd : XD sx x w) (he : e = some (nI (R c))) (hR : R c < 2147483648) (v : Int32) : (gR sx 1001 (some x) fun v1 => if v1 = none then (some 0) else (kd sx x 5 <| bp e fun v3 => bp (sX1_in sx v 0 (v3 - 1)) fun v5 => if v5 = 0 then (some 0) else (some 1))) = some (nI (b1 (isB v (R c)))) := by
  rw [hd.r1001, if_neg (by simp), hd.k5, he, bp_s, X_in, bp_s, in_pred hR]
  cases isB v (R c) <;> rfl
theorem X_no {α : Type} (h : XO sx x) (hn : sx.fr 1001 x = none) (k : Option Nat → Option α) : gR sx 1001 (some x) k = k none := by rw [g1001_5 h.1, hn]
theorem RL.is_ (h : RL x mo sx sm) (v : Int32) (c : Nat) (hc : c < 241) {e1 : Option Int32} {e2 : St → Option Int32} (h1 : ∀ w R S, RT x mo sx sm w R S → e1 = some (nI (b1 (isB v (R c))))) (h1n : R0 x mo sx sm → e1 = some 0) (h2 : ∀ w R S, RT x mo sx sm w R S → e2 (gd sm mo) = some (nI (b1 (isB v (R c))))) (h2n : (gd sm mo).fi 31 mo = nI 0 → e2 (gd sm mo) = some 0) (hR : ∀ R, WF R → R c < 2147483648) : ∃ b, GQ x mo sx sm b e1 e2 c v := by
  rcases h.2.2 with h0 | ⟨w, R, S, hT⟩
  · exact ⟨false, h1n h0, h2n h0.gd'.2.1, fun q => by cases q⟩
  · refine ⟨isB v (R c), h1 w R S hT, h2 w R S hT, fun q => ?_⟩
    obtain ⟨k, hk, e⟩ := isB_t (hR R hT.1.2.2.2.1) q
    exact ⟨w, R, S, k, h.ct hT, hk, e⟩
theorem M_is0 {σ : St} {mo : Nat} {K : Option Int32} (h : MS σ mo) (ht : σ.fi 31 mo = nI 0) : (gI σ 31 (some mo) fun v1 => if v1 = 0 then (some 0) else K) = some 0 := by
  rw [M_g31 h, ht, if_pos (by decide)]
theorem WF.r1 {R : Nat → Nat} (h : WF R) : R 1 < 2147483648 := by have := h.2.2.1; omega
theorem WF.r2 {R : Nat → Nat} (h : WF R) : R 2 < 2147483648 := by have := h.2.2.2.1; omega
theorem WF.r3 {R : Nat → Nat} (h : WF R) : R 3 < 2147483648 := by have := h.2.2.2.2.1; omega
theorem WF.r5 {R : Nat → Nat} (h : WF R) : R 5 < 2147483648 := by have := h.2.2.2.2.2.2.1; omega
theorem RL.isQ (h : RL x mo sx sm) (v : Int32) : ∃ b, GQ x mo sx sm b (sX1_isQuarrel sx x v) (fun s => sX2_isQuarrel s mo v) 5 v :=
  h.is_ v 5 (by decide) (fun w R S hT => X_is hT.1.1 (X_quarrels hT.1.1 hT.1.2.1) hT.1.2.2.2.1.r5 v) (fun h0 => by unfold sX1_isQuarrel; rw [X_no h.1.1 h0.1, if_pos rfl]) (fun w R S hT => M_is hT.2.1.gd'.1 hT.2.1.gd'.2.1 hT.2.1.gd'.2.2.2 (by decide) hT.1.2.2.2.1.r5 v) (fun e => M_is0 (gd_ms h.1.2.1) e) (fun R hw => hw.r5)
theorem RL.isP (h : RL x mo sx sm) (v : Int32) : ∃ b, GQ x mo sx sm b (sX1_isPlace sx x v) (fun s => sX2_isPlace s mo v) 1 v :=
  h.is_ v 1 (by decide) (fun w R S hT => X_is hT.1.1 (X_places hT.1.1 hT.1.2.1) hT.1.2.2.2.1.r1 v) (fun h0 => by unfold sX1_isPlace; rw [X_no h.1.1 h0.1, if_pos rfl]) (fun w R S hT => M_is hT.2.1.gd'.1 hT.2.1.gd'.2.1 hT.2.1.gd'.2.2.2 (by decide) hT.1.2.2.2.1.r1 v) (fun e => M_is0 (gd_ms h.1.2.1) e) (fun R hw => hw.r1)
theorem RL.isM (h : RL x mo sx sm) (v : Int32) : ∃ b, GQ x mo sx sm b (sX1_isPerson sx x v) (fun s => sX2_isPerson s mo v) 3 v :=
  h.is_ v 3 (by decide) (fun w R S hT => X_is hT.1.1 (X_people hT.1.1 hT.1.2.1) hT.1.2.2.2.1.r3 v) (fun h0 => by unfold sX1_isPerson; rw [X_no h.1.1 h0.1, if_pos rfl]) (fun w R S hT => M_is hT.2.1.gd'.1 hT.2.1.gd'.2.1 hT.2.1.gd'.2.2.2 (by decide) hT.1.2.2.2.1.r3 v) (fun e => M_is0 (gd_ms h.1.2.1) e) (fun R hw => hw.r3)
theorem RL.isK (h : RL x mo sx sm) (v : Int32) : ∃ b, GQ x mo sx sm b (sX1_isSight sx x v) (fun s => sX2_isSight s mo v) 2 v :=
  h.is_ v 2 (by decide) (fun w R S hT => X_is hT.1.1 (X_sights hT.1.1 hT.1.2.1) hT.1.2.2.2.1.r2 v) (fun h0 => by unfold sX1_isSight; rw [X_no h.1.1 h0.1, if_pos rfl]) (fun w R S hT => M_is hT.2.1.gd'.1 hT.2.1.gd'.2.1 hT.2.1.gd'.2.2.2 (by decide) hT.1.2.2.2.1.r2 v) (fun e => M_is0 (gd_ms h.1.2.1) e) (fun R hw => hw.r2)
/-- an operation that asks first whether there is such a one -/
theorem op_is {K1 : Option (St × Int32)} {K2 : St → Option (St × Int32)} (h : RL x mo sx sm) (c : Int32) (hc : c ≠ 4) {e1 : Option Int32} {e2 : St → Option Int32} {n : Nat} {v : Int32} (hg : ∃ b, GQ x mo sx sm b e1 e2 n v) (hk : ∀ w R S k, CT x mo sx (gd sm mo) sm w R S → k < R n → v = nI k → W2 K1 (K2 (gd sm mo)) (Op x mo sx sm)) : W2 (kd sx x 5 <| bp e1 fun v => if v = 0 then (kd sx x 5 <| bd (sX1_refused sx x c) fun s5 v6 => some (s5, v6)) else K1) (kd sm mo 7 <| bp (sX2_good sm mo) fun s2 => kd s2 mo 7 <| bp (e2 s2) fun v5 => if v5 = 0 then (kd s2 mo 7 <| bd (sX2_no s2 mo c) fun s8 v9 => some (s8, v9)) else K2 s2) (Op x mo sx sm) := by
  obtain ⟨b, g1, g2, g3⟩ := hg
  rw [kd_ob h.1.1.1, g1, bp_s, M_kd h.1.2.1, M_good h.1.2.1, bp_s, M_kd (gd_ms h.1.2.1), g2, bp_s]
  cases b
  · rw [if_pos (by decide), if_pos (by decide)]
    exact fin_ref h c hc
  · rw [if_neg (by decide), if_neg (by decide)]
    obtain ⟨w, R, S, k, hC, hk', e⟩ := g3 rfl
    exact hk w R S k hC hk' e
/-- the same with a number that must lie within 0 .. n -/
theorem X_why {b m : Bool} {v lo hi : Int32} (hm : (decide (lo ≤ v) && decide (v ≤ hi)) = m) : sX1_why sx x (nI (b1 b)) v lo hi = some (if b then (if m then nI 0 else nI 2) else nI 1) := by
  unfold sX1_why
  cases b
  · rfl
  · rw [if_neg (by decide), X_in, bp_s, hm]
    cases m <;> rfl
theorem M_why (σ : St) (b m : Bool) : sX2_why σ mo (nI (b1 b)) (nI (b1 m)) = some (if b then (if m then nI 0 else nI 2) else nI 1) := by
  cases b <;> cases m <;> rfl
theorem M_isMinute (σ : St) (v : Int32) : sX2_isMinute σ mo v = some (nI (b1 (isB v 60))) := by
  unfold sX2_isMinute
  have e := in_le (v := v) (n := 59) (by decide)
  rw [M_in, bp_s]
  rw [show (59 : Int32) = nI 59 from rfl, e]
  cases isB v 60 <;> rfl
theorem op_why {K1 : Option (St × Int32)} {K2 : St → Option (St × Int32)} (h : RL x mo sx sm) {e1 : Option Int32} {e2 : St → Option Int32} {n : Nat} {v u : Int32} (hg : ∃ b, GQ x mo sx sm b e1 e2 n v) (hk : ∀ w R S k t, CT x mo sx (gd sm mo) sm w R S → k < R n → v = nI k → t < 60 → u = nI t → W2 K1 (K2 (gd sm mo)) (Op x mo sx sm)) : W2 (kd sx x 5 <| bp e1 fun v2 => kd sx x 5 <| bp (sX1_why sx x v2 u 0 59) fun v5 => if v5 ≤ 0 then K1 else (kd sx x 5 <| bd (sX1_refused sx x v5) fun s18 v19 => some (s18, v19))) (kd sm mo 7 <| bp (sX2_good sm mo) fun s2 => kd s2 mo 7 <| bp (e2 s2) fun v5 => kd s2 mo 7 <| bp (sX2_isMinute s2 mo u) fun v8 => kd s2 mo 7 <| bp (sX2_why s2 mo v5 v8) fun v11 => if v11 = 0 then K2 s2 else (kd s2 mo 7 <| bd (sX2_no s2 mo v11) fun s20 v21 => some (s20, v21))) (Op x mo sx sm) := by
  obtain ⟨b, g1, g2, g3⟩ := hg
  have hm := gd_ms h.1.2.1
  have e : (decide (0 ≤ u) && decide (u ≤ 59)) = isB u 60 := in_le (v := u) (n := 59) (by decide)
  rw [kd_ob h.1.1.1, g1, bp_s, kd_ob h.1.1.1, X_why (m := isB u 60) e, bp_s, M_kd h.1.2.1, M_good h.1.2.1, bp_s, M_kd hm, g2, bp_s, M_kd hm, M_isMinute, bp_s, M_kd hm, M_why, bp_s]
  cases b
  · exact fin_ref h (nI 1) (by decide)
  · cases hmm : isB u 60
    · exact fin_ref h (nI 2) (by decide)
    · obtain ⟨w, R, S, k, hC, hk', e⟩ := g3 rfl
      obtain ⟨t, ht, e'⟩ := isB_t (by decide) hmm
      exact hk w R S k t hC hk' e ht e'
/-- a town has been told, or not -/
theorem op_town {K1 : Option (St × Int32)} {K2 : St → Option (St × Int32)} (h : RL x mo sx sm) (hk : ∀ w R S, CT x mo sx (gd sm mo) sm w R S → W2 K1 (K2 (gd sm mo)) (Op x mo sx sm)) : W2 (gR sx 1001 (some x) fun v1 => if v1 = none then (kd sx x 5 <| bd (sX1_refused sx x 1) fun s3 v4 => some (s3, v4)) else K1) (kd sm mo 7 <| bp (sX2_good sm mo) fun s2 => gI s2 31 (some mo) fun v4 => if v4 = 0 then (kd s2 mo 7 <| bd (sX2_no s2 mo 1) fun s6 v7 => some (s6, v7)) else K2 s2) (Op x mo sx sm) := by
  have hm := gd_ms h.1.2.1
  rw [M_kd h.1.2.1, M_good h.1.2.1, bp_s, M_g31 hm]
  rcases h.2.2 with h0 | ⟨w, R, S, hT⟩
  · rw [X_no h.1.1 h0.1, if_pos rfl, h0.gd'.2.1, if_pos (by decide)]
    exact fin_ref h 1 (by decide)
  · rw [hT.1.1.r1001, if_neg (by simp), hT.2.1.gd'.2.2.2, if_neg (by decide)]
    exact hk w R S (h.ct hT)
end
