/-! QUERIES: places, watchers, eyes -/
set_option maxRecDepth 100000
theorem witS_0 (R : Nat → Nat) (p : Nat) : witS R 0 p = R (28 + 4 * p) := witS_out 0 p (R 7) 0 _ (fun j _ _ q => by rw [Nat.zero_testBit] at q; exact absurd q.2 (by decide))
theorem eyP_n (R : Nat → Nat) (i : Nat) : eyP R none i = eyeK (R (26 + 4 * i)) := rfl
/-- what is tried at the model: the row, wits of some, one taken for plain -/
def TRL (σ : St) (mo : Nat) (R tr : Nat → Nat) (oth : Nat) (pl : Option Nat) : Prop := AR σ mo 8 8 tr ∧ TR σ mo R (witS R oth) (eyP R pl)
section
variable {x mo : Nat} {sx s0 sm : St} {w : Nat → Nat → Nat} {R S : Nat → Nat}
theorem CT.rb (h : CT x mo sx s0 sm w R S) : RB x mo sx s0 := h.1
theorem CT.rt (h : CT x mo sx s0 sm w R S) : RT x mo sx s0 w R S := h.2.1
theorem CT.qc (h : CT x mo sx s0 sm w R S) : QC sx x w R S := h.2.1.1
theorem CT.mc (h : CT x mo sx s0 sm w R S) : MC s0 mo R S := h.2.1.2.1
theorem CT.ms (h : CT x mo sx s0 sm w R S) : MS s0 mo := h.mc.1
theorem CT.fl (h : CT x mo sx s0 sm w R S) : FL sx x none 0 false := h.2.2.2.2
theorem QC.xd {σ : St} (h : QC σ x w R S) : XD σ x w := h.1
theorem QC.xt {σ : St} (h : QC σ x w R S) : XT σ w R := h.2.1
theorem QC.sc {σ : St} (h : QC σ x w R S) : SC σ (w 0 1) S := h.2.2.1
theorem QC.wf {σ : St} (h : QC σ x w R S) : WF R := h.2.2.2.1
theorem QC.tb {σ : St} (h : QC σ x w R S) : TB S := h.2.2.2.2.1
theorem M_now {σ : St} (h : MC σ mo R S) (hw : WF R) : ∃ τ, sX2_asNow σ mo = some τ ∧ Mq mo σ τ ∧ MC τ mo R S ∧ TRL τ mo R S 0 none := by
  obtain ⟨τ, e, h1, -, h3, h4, h5⟩ := M_asNow h.1 h.2.1 h.2.2.1 hw
  exact ⟨τ, e, h1, h.mq h1, h3, fun m hm => by rw [witS_0]; exact h4 m hm, fun m hm => by rw [eyP_n]; exact h5 m hm⟩
theorem CT.now (h : CT x mo sx s0 sm w R S) : ∃ τ, sX2_asNow s0 mo = some τ ∧ Mq mo s0 τ ∧ MC τ mo R S ∧ TRL τ mo R S 0 none := M_now h.mc h.qc.wf
theorem M_wat {σ : St} {tr : Nat → Nat} {oth : Nat} {pl : Option Nat} (h : MC σ mo R S) (ht : TRL σ mo R tr oth pl) (hw : WF R) (hb : TB tr) {p t : Nat} (hp : p < 6) (h60 : t < 60) : sX2_watchersOf σ mo (nI p) (nI t) = some (nI (watchS R tr p t)) := (M_watchersOf h.1 h.2.1 ht.1 hw hb hp h60).1
theorem M_eye {σ : St} {tr : Nat → Nat} {oth : Nat} {pl : Option Nat} (h : MC σ mo R S) (ht : TRL σ mo R tr oth pl) (hw : WF R) {s : Nat} (hs : s < 2147483648) : sX2_eyesOf σ mo (nI s) = some (nI (eyesS R (eyP R pl) s)) := (M_eyesOf h.1 h.2.1 ht.2.2 (eyP_le R pl) hw.2.2.2.2.1 hs).1
theorem X_wat {σ : St} (h : QC σ x w R S) {p t : Nat} (hp : p < 6) (h60 : t < 60) : sX14_watchers σ (w 0 1) (nI p) (nI t) = some (nI (watchS R S p t)) ∧ watchS R S p t < 64 := X_watchers h.xt h.wf h.xd.s1 h.sc h.tb hp h60
theorem X_eye {σ : St} {pl : Option Nat} {oth : Nat} {B : Bool} (h : QC σ x w R S) (hf : FL σ x pl oth B) (hpm : ∀ q, pl = some q → q < 6) {s : Nat} (hs : s < 2147483648) : sX1_eyesOfAll σ x (nI s) = some (nI (eyesS R (eyP R pl) s)) ∧ eyesS R (eyP R pl) s ≤ 12 := X_eyesAll h.xd h.xt h.wf hf.1 hpm hs
theorem np {P : Nat → Prop} : ∀ q, (none : Option Nat) = some q → P q := fun q h => by cases h
theorem OP_at (h : RL x mo sx sm) (p u : Int32) : W2 (sX1_at sx x p u) (sX2_at sm mo p u) (Op x mo sx sm) := by
  unfold sX1_at sX2_at
  refine op_why h (h.isM p) ?_
  intro w R S k t hC hk e ht e'
  subst e e'
  obtain ⟨τ, e, m1, m2, m3⟩ := hC.now
  rw [hC.qc.xd.r1002, hC.qc.xd.s1.i21, X_at hC.qc.xt hC.qc.wf hC.qc.xd.s1 hC.qc.sc hC.qc.tb hk ht, bp_s, M_kd hC.ms, e, bp_s, M_kd m2.1, (M_placeOf m2.1 m2.2.1 m3.1 hC.qc.wf hC.qc.tb.1 hk ht).1, bp_s]
  exact fin_well hC (Xq.rf ..) m1 hC.fl rfl
theorem OP_into (h : RL x mo sx sm) (p : Int32) : W2 (sX1_into sx x p) (sX2_into sm mo p) (Op x mo sx sm) := by
  unfold sX1_into sX2_into
  refine op_is h 1 (by decide) (h.isP p) ?_
  intro w R S k hC hk e
  subst e
  have h6 := hC.qc.wf.2.2.1
  obtain ⟨τ, e, m1, m2, m3⟩ := hC.now
  rw [hC.qc.xd.r1002, hC.qc.xd.s1.i21, X_into hC.qc.xt hC.qc.wf hC.qc.xd.s1 hC.qc.sc hC.qc.tb (by omega), bp_s, M_kd hC.ms, e, bp_s, M_kd m2.1, (M_intoOf m2.1 m2.2.1 m3.1 hC.qc.wf hC.qc.tb.2 (by omega)).1, bp_s]
  exact fin_well hC (Xq.rf ..) m1 hC.fl rfl
theorem OP_watchers (h : RL x mo sx sm) (p u : Int32) : W2 (sX1_watchers sx x p u) (sX2_watchers sm mo p u) (Op x mo sx sm) := by
  unfold sX1_watchers sX2_watchers
  refine op_why h (h.isP p) ?_
  intro w R S k t hC hk e ht e'
  subst e e'
  have h6 := hC.qc.wf.2.2.1
  obtain ⟨τ, e, m1, m2, m3⟩ := hC.now
  rw [hC.qc.xd.r1002, hC.qc.xd.s1.i21, (X_wat hC.qc (by omega) ht).1, bp_s, M_kd hC.ms, e, bp_s, M_kd m2.1, M_wat m2 m3 hC.qc.wf hC.qc.tb (by omega) ht, bp_s]
  exact fin_well hC (Xq.rf ..) m1 hC.fl rfl
theorem OP_eyes (h : RL x mo sx sm) (p u : Int32) : W2 (sX1_eyes sx x p u) (sX2_eyes sm mo p u) (Op x mo sx sm) := by
  unfold sX1_eyes sX2_eyes
  refine op_why h (h.isP p) ?_
  intro w R S k t hC hk e ht e'
  subst e e'
  have h6 := hC.qc.wf.2.2.1
  obtain ⟨τ, e, m1, m2, m3⟩ := hC.now
  obtain ⟨a1, a2⟩ := X_wat hC.qc (p := k) (t := t) (by omega) ht
  rw [hC.qc.xd.r1002, hC.qc.xd.s1.i21, a1, bp_s, hC.qc.xd.k5, (X_eye hC.qc hC.fl np (by omega)).1, bp_s, M_kd hC.ms, e, bp_s, M_kd m2.1, M_wat m2 m3 hC.qc.wf hC.qc.tb (by omega) ht, bp_s, M_kd m2.1, M_eye m2 m3 hC.qc.wf (by omega), bp_s]
  exact fin_well hC (Xq.rf ..) m1 hC.fl rfl
theorem OP_hidden (h : RL x mo sx sm) (u : Int32) : W2 (sX1_hidden sx x u) (sX2_hidden sm mo u) (Op x mo sx sm) := by
  unfold sX1_hidden sX2_hidden
  have hm := gd_ms h.1.2.1
  have e60 : (decide (0 ≤ u) && decide (u ≤ 59)) = isB u 60 := in_le (v := u) (n := 59) (by decide)
  rw [M_kd h.1.2.1, M_good h.1.2.1, bp_s, M_g31 hm]
  rcases h.2.2 with h0 | ⟨w, R, S, hT⟩
  · have a1 : sX1_why sx x 0 u 0 59 = some (nI 1) := X_why (b := false) e60
    have a2 : sX2_why (gd sm mo) mo (nI 0) (nI (b1 (isB u 60))) = some (nI 1) := M_why (gd sm mo) false (isB u 60)
    rw [X_no h.1.1 h0.1, if_pos rfl, bp_s, h0.gd'.2.1, kd_ob h.1.1.1, a1, bp_s, M_kd hm, M_isMinute, bp_s, M_kd hm, a2, bp_s]
    exact fin_ref h (nI 1) (by decide)
  · have a1 : sX1_why sx x 1 u 0 59 = some (if isB u 60 then nI 0 else nI 2) := X_why (b := true) e60
    have a2 : sX2_why (gd sm mo) mo (nI 1) (nI (b1 (isB u 60))) = some (if isB u 60 then nI 0 else nI 2) := M_why (gd sm mo) true (isB u 60)
    have hC := h.ct hT
    rw [hT.1.1.r1001, if_neg (by simp), bp_s, hT.2.1.gd'.2.2.2, kd_ob h.1.1.1, a1, bp_s, M_kd hm, M_isMinute, bp_s, M_kd hm, a2, bp_s]
    cases hmm : isB u 60
    · exact fin_ref h (nI 2) (by decide)
    · obtain ⟨t, ht, rfl⟩ := isB_t (by decide) hmm
      have h6 := hC.qc.wf.2.2.1
      obtain ⟨τ, e, m1, m2, m3⟩ := hC.now
      rw [if_pos rfl, if_pos (show nI 0 ≤ 0 by decide), if_pos (show nI 0 = 0 by decide), M_kd hm, e, bp_s]
      refine W2_bp (P := fun a b => a = b) (W2_loop (fun n (b : Int32) k => sX1_hidden_L36 sx x (nI t) n b (nI k)) (fun n (b : Int32) k => sX2_hidden_L37 τ mo (nI t) n b (nI k)) (R 1) (fun _ b c => b = c) (by omega) (fun n m k b c hk hi hs => ?_) 0 (Nat.zero_le _) 0 0 rfl) (fun a b hab => fin_well hC (Xq.rf ..) m1 hC.fl hab)
      subst hi
      rw [sX1_hidden_L36, sX2_hidden_L37, hC.qc.xd.k5, X_places hC.qc.xd hC.qc.xt, bp_s, M_r1011 m2.1, show (1 : Int32) = nI 1 from rfl, M_l3 m2.1 (by decide), m2.2.1 1 (by decide)]
      by_cases hkk : k = R 1
      · rw [if_pos (nI_le (by omega) (by omega)), if_pos (nI_le (by omega) (by omega))]
        exact W2_ret rfl
      · obtain ⟨a1, a2⟩ := X_wat hC.qc (p := k) (t := t) (by omega) ht
        rw [if_neg (nI_ge (by omega) (by omega)), if_neg (nI_ge (by omega) (by omega)), hC.qc.xd.r1002, hC.qc.xd.s1.i21, a1, bp_s, hC.qc.xd.k5, (X_eye hC.qc hC.fl np (by omega)).1, bp_s, M_kd m2.1, M_wat m2 m3 hC.qc.wf hC.qc.tb (by omega) ht, bp_s, M_kd m2.1, M_eye m2 m3 hC.qc.wf (by omega), bp_s, nI_add]
        split
        · exact hs (by omega) _ _ rfl
        · exact hs (by omega) _ _ rfl
end
