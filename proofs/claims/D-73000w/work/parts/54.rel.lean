/-! THE TWO SIDES TOGETHER: what a query leaves, what holds between calls -/
set_option maxRecDepth 100000
/-- the component's scratch may differ -/
def Xq (x tr : Nat) (σ τ : St) : Prop := τ.nn = σ.nn ∧ τ.ob = σ.ob ∧ τ.ln = σ.ln ∧ τ.fr = σ.fr ∧ τ.ar = σ.ar ∧ (∀ a, a ≠ tr + 1 → a ≠ x + 4 → τ.ai a = σ.ai a) ∧ (∀ F a, ¬ (4 ≤ F ∧ F ≤ 16) → ¬ (a = tr ∧ (F = 77 ∨ F = 78)) → τ.fi F a = σ.fi F a)
section
variable {x tr : Nat} {σ τ υ : St}
theorem Xq.rf (x tr : Nat) (σ : St) : Xq x tr σ σ := ⟨rfl, rfl, rfl, rfl, rfl, fun _ _ _ => rfl, fun _ _ _ _ => rfl⟩
theorem Xq.tr' (h : Xq x tr σ τ) (k : Xq x tr τ υ) : Xq x tr σ υ := by
  obtain ⟨h1, h2, h3, h4, h5, h6, h7⟩ := h
  obtain ⟨k1, k2, k3, k4, k5, k6, k7⟩ := k
  exact ⟨k1.trans h1, k2.trans h2, k3.trans h3, k4.trans h4, k5.trans h5, fun a ha hb => (k6 a ha hb).trans (h6 a ha hb), fun F a ha hb => (k7 F a ha hb).trans (h7 F a ha hb)⟩
theorem Xq.sx {F a : Nat} {v : Int32} (h : Xq x tr σ τ) (h1 : 4 ≤ F) (h2 : F ≤ 16) : Xq x tr σ (τ.sI F a v) :=
  h.tr' ⟨rfl, rfl, rfl, rfl, rfl, fun _ _ _ => rfl, fun G b hG _ => if_neg (fun q => hG (by rw [q.1]; exact ⟨h1, h2⟩))⟩
theorem Xq.st {F : Nat} {v : Int32} (h : Xq x tr σ τ) (h1 : F = 77 ∨ F = 78) : Xq x tr σ (τ.sI F tr v) :=
  h.tr' ⟨rfl, rfl, rfl, rfl, rfl, fun _ _ _ => rfl, fun G b _ hG => if_neg (fun q => hG (by rw [q.1, q.2]; exact ⟨rfl, h1⟩))⟩
theorem Xq.at' {g : Nat → Int32} (h : Xq x tr σ τ) : Xq x tr σ (τ.aI (tr + 1) g) :=
  h.tr' ⟨rfl, rfl, rfl, rfl, rfl, fun a h1 _ => if_neg h1, fun _ _ _ _ => rfl⟩
theorem Xq.ao {g : Nat → Int32} (h : Xq x tr σ τ) : Xq x tr σ (τ.aI (x + 4) g) :=
  h.tr' ⟨rfl, rfl, rfl, rfl, rfl, fun a _ h1 => if_neg h1, fun _ _ _ _ => rfl⟩
theorem Xq.al {a : Nat} {g : Nat → Int64} (h : Xq x tr σ τ) : Xq x tr σ (τ.aL a g) :=
  h.tr' ⟨rfl, rfl, rfl, rfl, rfl, fun _ _ _ => rfl, fun _ _ _ _ => rfl⟩
theorem Mf.xq {P : Nat → Bool} (x tr : Nat) (h : Mf P σ τ) (hP : ∀ F, ¬ (4 ≤ F ∧ F ≤ 16) → P F = false) : Xq x tr σ τ :=
  ⟨h.1, h.2.1, h.2.2.1, h.2.2.2.1, h.2.2.2.2.2.2.1, fun a _ _ => by rw [h.2.2.2.2.1], fun F a hF _ => h.2.2.2.2.2.2.2 F a (hP F hF)⟩
theorem cX_q : ∀ F, ¬ (4 ≤ F ∧ F ≤ 16) → cX F = false := fun F h => by simp [cX]; omega
theorem Xq.lo (h : Xq x tr σ τ) : τ.lo = σ.lo := by simp only [St.lo, h.1]
theorem Xq.ks (h : Xq x tr σ τ) : τ.ks = σ.ks := by simp only [St.ks, h.1]
theorem Xq.xo (h : Xq x tr σ τ) (hx : XO σ x) : XO τ x := by
  obtain ⟨h1, h2, h3, h4, -⟩ := id h
  unfold XO
  rw [h2, h3, h4, h.lo]
  exact hx
theorem Xq.sh {s t : Nat} (h : Xq x tr σ τ) (hx : SH σ s t) : SH τ s t := by
  obtain ⟨h1, h2, h3, h4, -⟩ := id h
  unfold SH
  rw [h2, h3, h4, h.lo]
  exact hx
theorem Xq.lq {l n : Nat} {f : Nat → Nat} (h : Xq x tr σ τ) (hx : LQ σ l n f) : LQ τ l n f := by
  obtain ⟨h1, h2, h3, h4, h5, h6, h7⟩ := h
  unfold LQ at hx ⊢
  rw [h2, h3, h4, h5, h7 18 l (by omega) (by omega)]
  exact hx
end
/-- flags: taken for plain, whose wits are others, do boys come -/
def FL (σ : St) (x : Nat) (pl : Option Nat) (oth : Nat) (B : Bool) : Prop := σ.fi 4 x = plI pl ∧ σ.fi 5 x = nI oth ∧ σ.fi 12 x = nI (b1 B)
theorem Mf.fl {σ τ : St} {x : Nat} {pl : Option Nat} {oth : Nat} {B : Bool} (h : Mf cX σ τ) (hf : FL σ x pl oth B) : FL τ x pl oth B :=
  ⟨(h.2.2.2.2.2.2.2 4 x rfl).trans hf.1, (h.2.2.2.2.2.2.2 5 x rfl).trans hf.2.1, (h.2.2.2.2.2.2.2 12 x rfl).trans hf.2.2⟩
/-- the desk with its town and its scene -/
def QC (σ : St) (x : Nat) (w : Nat → Nat → Nat) (R S : Nat → Nat) : Prop := XD σ x w ∧ XT σ w R ∧ SC σ (w 0 1) S ∧ WF R ∧ TB S ∧ (x + 5 < w 0 0 ∧ ∀ p, p < R 3 → x + 5 < w 1 p)
theorem XT.xq {x : Nat} {σ τ : St} {w : Nat → Nat → Nat} {R : Nat → Nat} (ht : XT σ w R) (h : Xq x (w 0 2) σ τ) (hs : SH σ (w 0 2) (w 0 0)) (ha : x + 5 < w 0 0 ∧ ∀ p, p < R 3 → x + 5 < w 1 p) : XT τ w R := by
  obtain ⟨t1, t2, t3, t4, t5, t6, t7, t8⟩ := ht
  have ho := hs.2.2.2.2.1
  obtain ⟨h1, h2, h3, h4, h5, h6, h7⟩ := id h
  have e5 : τ.ai (w 0 0 + 5) = σ.ai (w 0 0 + 5) := h6 _ (fun e => by rw [e, ho] at t5; exact absurd t5.1 (by decide)) (by omega)
  refine ⟨by rw [h2]; exact t1, ?_, by rw [h4]; exact t3, ?_, by rw [h2, h3, e5]; exact t5, fun k hk => ?_, fun p hp => ?_, fun q hq => ?_⟩
  · rw [h7 49 _ (by omega) (by omega), h7 50 _ (by omega) (by omega), h7 51 _ (by omega) (by omega), h7 52 _ (by omega) (by omega), h7 53 _ (by omega) (by omega)]
    exact t2
  · obtain ⟨⟨f, a1⟩, a2, a3, a4⟩ := t4
    exact ⟨⟨f, h.lq a1⟩, h.lq a2, h.lq a3, h.lq a4⟩
  · rw [h2, h7 63 _ (by omega) (by omega), h7 64 _ (by omega) (by omega)]
    exact t6 k hk
  · have hp' := t7 p hp
    have hap := ha.2 p hp
    obtain ⟨-, -, -, -, -, -, ⟨o1, -, o2, -⟩, -⟩ := id hp'
    have e1 : τ.ai (w 1 p + 1) = σ.ai (w 1 p + 1) := h6 _ (fun e => by rw [e, ho] at o1; exact absurd o1 (by decide)) (by omega)
    have e2 : τ.ai (w 1 p + 2) = σ.ai (w 1 p + 2) := h6 _ (fun e => by rw [e, ho] at o2; exact absurd o2 (by decide)) (by omega)
    unfold XP at hp' ⊢
    rw [h2, h3, h4, e1, e2, h7 65 _ (by omega) (by omega), h7 66 _ (by omega) (by omega), h7 67 _ (by omega) (by omega), h7 68 _ (by omega) (by omega), h7 69 _ (by omega) (by omega)]
    exact hp'
  · have hq' := t8 q hq
    unfold XR at hq' ⊢
    rw [h2, h7 71 _ (by omega) (by omega), h7 72 _ (by omega) (by omega), h7 73 _ (by omega) (by omega), h7 74 _ (by omega) (by omega), h7 75 _ (by omega) (by omega), h7 76 _ (by omega) (by omega)]
    exact hq'
theorem SC.xq {x tr s : Nat} {σ τ : St} {S : Nat → Nat} (hc : SC σ s S) (h : Xq x tr σ τ) (hn : s ≠ tr) (ho : σ.ob (s + 1) = 2) (hx : σ.ob (x + 4) = 1) : SC τ s S := by
  obtain ⟨c1, c2, c3⟩ := hc
  have e : τ.ai (s + 1) = σ.ai (s + 1) := h.2.2.2.2.2.1 _ (by omega) (fun e => by rw [e, hx] at ho; exact absurd ho (by decide))
  exact ⟨fun p hp => by rw [e]; exact c1 p hp, (h.2.2.2.2.2.2 77 s (by omega) (by omega)).trans c2, (h.2.2.2.2.2.2 78 s (by omega) (by omega)).trans c3⟩
theorem QC.xq {x : Nat} {σ τ : St} {w : Nat → Nat → Nat} {R S : Nat → Nat} (hq : QC σ x w R S) (h : Xq x (w 0 2) σ τ) : QC τ x w R S := by
  obtain ⟨⟨d1, d2, d3, d4, d5, d6, d7⟩, ht, hc, hw, hb, ha⟩ := hq
  exact ⟨⟨h.xo d1, by rw [h.2.2.2.1]; exact d2, by rw [h.2.2.2.1]; exact d3, by rw [h.2.2.2.1]; exact d4, h.sh d5, h.sh d6, d7⟩, ht.xq h d6 ha, hc.xq h d7 d5.2.2.2.2.1 d1.2.2.2.1.2.2.2.1, hw, hb, ha⟩
/-- the model with its town and its row -/
def MC (σ : St) (mo : Nat) (R S : Nat → Nat) : Prop := MS σ mo ∧ AR σ mo 3 241 R ∧ AR σ mo 5 8 S ∧ σ.fi 31 mo = nI 1
theorem MC.mq {mo : Nat} {σ τ : St} {R S : Nat → Nat} (h : MC σ mo R S) (hq : Mq mo σ τ) : MC τ mo R S :=
  ⟨hq.ms h.1, hq.ar (by decide) h.2.1, hq.ar (by decide) h.2.2.1, (hq.2.2.2.2.2.1 31 mo rfl).trans h.2.2.2⟩
/-- scenes kept in a list of the component, rows kept in an array of the model -/
def HI (sx sm : St) (l t tr b F mo m : Nat) : Prop := ∃ (n : Nat) (f : Nat → Nat) (P : Nat → Nat → Nat), n ≤ m ∧ LQ sx l n f ∧ sm.fi F mo = nI n ∧ ∀ i, i < n → SH sx (f i) t ∧ f i ≠ tr ∧ SC sx (f i) (P i) ∧ TB (P i) ∧ ∀ j, j < 8 → sm.ai (mo + b) (8 * i + j) = nI (P i j)
/-- the words that both sides know -/
def wdL : List (List Nat) := [[], [97, 116], [98, 97, 98, 101], [98, 108, 105, 110, 100], [98, 111, 121, 115], [100, 101, 97, 102], [101, 110, 100, 101, 100], [102, 111, 114], [102, 114, 111, 109], [103, 111, 101, 115], [104, 105, 114, 101], [110, 101, 101, 100, 115], [112, 101, 114, 115, 111, 110], [112, 108, 97, 99, 101], [112, 108, 97, 105, 110], [113, 117, 97, 114, 114, 101, 108], [115, 101, 101, 115], [116, 111, 119, 110], [117, 110, 115, 117, 114, 101], [119, 105, 116]]
def wdS (i : Nat) : List Nat := wdL.getD i []
/-- a text at a -/
def TX (σ : St) (a : Nat) (u : List Nat) : Prop := σ.ob a = 13 ∧ σ.fi 60 a = nI 0 ∧ ∃ b, σ.fr 1031 a = some b ∧ σ.ob b = 2 ∧ σ.ln b = u.length ∧ b < σ.sz ∧ ∀ j, j < u.length → σ.ai b j = nI (u.getD j 0)
def KS (σ : St) : Prop := (∀ i, i < 20 → ∃ a, σ.ks i = some a ∧ a < σ.lo ∧ σ.ob a = 13 ∧ σ.fi 60 a = nI 0 ∧ (i = 0 → σ.fi 61 a = nI 0 ∧ σ.fi 62 a = nI 1) ∧ ∃ b, σ.fr 1031 a = some b ∧ b < σ.lo ∧ σ.ob b = 2 ∧ σ.ln b = (wdS i).length ∧ ∀ j, j < (wdS i).length → σ.ai b j = nI ((wdS i).getD j 0)) ∧ (∃ c, σ.ks 60 = some c ∧ c < σ.lo ∧ σ.ob c = 4 ∧ σ.ln c = 0)
theorem KS.xq {x tr : Nat} {σ τ : St} (hk : KS σ) (h : Xq x tr σ τ) (h1 : σ.lo ≤ x) (h2 : σ.lo ≤ tr) : KS τ := by
  obtain ⟨k1, c, k2, k3, k4, k5⟩ := hk
  refine ⟨fun i hi => ?_, c, by rw [h.ks]; exact k2, by rw [h.lo]; exact k3, by rw [h.2.1]; exact k4, by rw [h.2.2.1]; exact k5⟩
  obtain ⟨a, a1, a2, a3, a4, a5, b, a6, a7, a8, a9, a10⟩ := k1 i hi
  obtain ⟨h3, h4, h5, h6, h7, h8, h9⟩ := id h
  refine ⟨a, by rw [h.ks]; exact a1, by rw [h.lo]; exact a2, by rw [h4]; exact a3, (h9 60 a (by omega) (by omega)).trans a4, fun hi0 => ⟨(h9 61 a (by omega) (by omega)).trans (a5 hi0).1, (h9 62 a (by omega) (by omega)).trans (a5 hi0).2⟩, b, by rw [h6]; exact a6, by rw [h.lo]; exact a7, by rw [h4]; exact a8, by rw [h5]; exact a9, fun j hj => ?_⟩
  rw [h8 b (by omega) (by omega)]
  exact a10 j hj
theorem KS.mq {mo : Nat} {σ τ : St} (hk : KS σ) (h : Mq mo σ τ) (h1 : σ.lo ≤ mo) : KS τ := by
  obtain ⟨k1, c, k2, k3, k4, k5⟩ := hk
  have e1 : τ.lo = σ.lo := by simp only [St.lo, h.1]
  have e2 : τ.ks = σ.ks := by simp only [St.ks, h.1]
  obtain ⟨h3, h4, h5, h6, h7, h8, h9, h10⟩ := h
  refine ⟨fun i hi => ?_, c, by rw [e2]; exact k2, by rw [e1]; exact k3, by rw [h4]; exact k4, by rw [h5]; exact k5⟩
  obtain ⟨a, a1, a2, a3, a4, a5, b, a6, a7, a8, a9, a10⟩ := k1 i hi
  refine ⟨a, by rw [e2]; exact a1, by rw [e1]; exact a2, by rw [h4]; exact a3, (h8 60 a rfl).trans a4, fun hi0 => ⟨(h8 61 a rfl).trans (a5 hi0).1, (h8 62 a rfl).trans (a5 hi0).2⟩, b, by rw [h6]; exact a6, by rw [e1]; exact a7, by rw [h4]; exact a8, by rw [h5]; exact a9, fun j hj => ?_⟩
  rw [h7 b (by omega)]
  exact a10 j hj
/-- every known place lies within; lists have their data, their own or the empty one -/
def LW (σ : St) : Prop := ∀ l, σ.ob l = 6 → σ.lo ≤ l ∧ ∃ d, σ.fr 1008 l = some d ∧ σ.ob d = 4 ∧ ((σ.ks 60 = some d ∧ σ.ln d = 0) ∨ (σ.lo ≤ d ∧ (σ.ln d = 10 ∨ σ.ln d = 15 ∨ σ.ln d = 22) ∧ ∀ l', σ.ob l' = 6 → σ.fr 1008 l' = some d → l' = l))
def GW (σ : St) : Prop := (∀ a, σ.ob a ≠ 0 → a < σ.sz) ∧ LW σ
theorem GW.eq {σ τ : St} (h : GW σ) (h1 : τ.nn = σ.nn) (h2 : τ.ob = σ.ob) (h3 : τ.ln = σ.ln) (h4 : τ.fr = σ.fr) : GW τ := by
  unfold GW LW at h ⊢
  have e1 : τ.lo = σ.lo := by simp only [St.lo, h1]
  have e2 : τ.ks = σ.ks := by simp only [St.ks, h1]
  have e3 : τ.sz = σ.sz := by simp only [St.sz, h1]
  rw [e1, e2, e3, h2, h3, h4]
  exact h
/-- what holds whatever is told: both objects, the tape, the fault; every known place lies within -/
def RB (x mo : Nat) (sx sm : St) : Prop := XO sx x ∧ MS sm mo ∧ (∃ n, n ≤ 900 ∧ sx.fi 0 x = nI n ∧ sm.fi 20 mo = nI n) ∧ sx.fi 1 x = sm.fi 27 mo ∧
  (∀ i, i < 900 → ∃ c, c < 256 ∧ sx.ai (x + 1) i = (nI c).toInt8.toInt32 ∧ sm.ai (mo + 1) i = nI c) ∧ KS sx ∧ KS sm ∧ GW sx
/-- a town has been told -/
def RT (x mo : Nat) (sx sm : St) (w : Nat → Nat → Nat) (R S : Nat → Nat) : Prop := QC sx x w R S ∧ MC sm mo R S ∧ HI sx sm (x + 2) (w 0 0) (w 0 2) 6 32 mo 16 ∧ HI sx sm (x + 3) (w 0 0) (w 0 2) 7 33 mo 3
def R0 (x mo : Nat) (sx sm : St) : Prop := sx.fr 1001 x = none ∧ sm.fi 31 mo = nI 0 ∧ (∃ f, LQ sx (x + 2) 0 f) ∧ (∃ f, LQ sx (x + 3) 0 f) ∧ sm.fi 32 mo = nI 0 ∧ sm.fi 33 mo = nI 0
/-- what both tell of the last refusal; no flag is up -/
def RE (x mo : Nat) (sx sm : St) : Prop := sx.fi 3 x = sm.fi 29 mo ∧ sx.fi 2 x = (if sm.fi 29 mo = 4 then sm.fi 28 mo else -1) ∧ FL sx x none 0 false
def RL (x mo : Nat) (sx sm : St) : Prop := RB x mo sx sm ∧ RE x mo sx sm ∧ (R0 x mo sx sm ∨ ∃ w R S, RT x mo sx sm w R S)
/-- what an operation has to answer -/
def Op {γ : Type} (x mo : Nat) (sx sm : St) (a b : St × γ) : Prop := a.2 = b.2 ∧ RL x mo a.1 b.1 ∧ (sx.rc ≤ a.1.rc + 18000 ∧ sx.rs ≤ a.1.rs + 85000) ∧ b.1.nn = sm.nn
theorem HI.q {sx sm s1 s2 : St} {x l t tr b F mo m : Nat} (h : HI sx sm l t tr b F mo m) (hx : Xq x tr sx s1) (hm : Mq mo sm s2) (hF : scr F = false) (hb : b < 8) (ho : sx.ob (x + 4) = 1) : HI s1 s2 l t tr b F mo m := by
  obtain ⟨n, f, P, h1, h2, h3, h4⟩ := h
  refine ⟨n, f, P, h1, hx.lq h2, (hm.2.2.2.2.2.1 F mo hF).trans h3, fun i hi => ?_⟩
  obtain ⟨k1, k2, k3, k4, k5⟩ := h4 i hi
  exact ⟨hx.sh k1, k2, k3.xq hx k2 k1.2.2.2.2.1 ho, k4, fun j hj => by rw [hm.2.2.2.2.1 _ (Or.inl (by omega))]; exact k5 j hj⟩
theorem RB.q {sx sm s1 s2 : St} {x mo tr : Nat} (h : RB x mo sx sm) (hx : Xq x tr sx s1) (hm : Mq mo sm s2) (htr : sx.lo ≤ tr) (h1 : x + 1 ≠ tr + 1) : RB x mo s1 s2 := by
  obtain ⟨b1, b2, ⟨n, b3, b4, b5⟩, b6, b7, b8, b9, b10⟩ := h
  refine ⟨hx.xo b1, hm.ms b2, ⟨n, b3, (hx.2.2.2.2.2.2 0 x (by omega) (by omega)).trans b4, (hm.2.2.2.2.2.1 20 mo rfl).trans b5⟩, ?_, fun i hi => ?_, b8.xq hx b1.2.1 htr, b9.mq hm b2.2.1, b10.eq hx.1 hx.2.1 hx.2.2.1 hx.2.2.2.1⟩
  · rw [hx.2.2.2.2.2.2 1 x (by omega) (by omega), hm.2.2.2.2.2.1 27 mo rfl]; exact b6
  · rw [hx.2.2.2.2.2.1 (x + 1) h1 (by omega), hm.2.2.2.2.1 (mo + 1) (Or.inl (by omega))]
    exact b7 i hi
theorem RT.q {sx sm s1 s2 : St} {x mo : Nat} {w : Nat → Nat → Nat} {R S : Nat → Nat} (h : RT x mo sx sm w R S) (hx : Xq x (w 0 2) sx s1) (hm : Mq mo sm s2) : RT x mo s1 s2 w R S := by
  have ho := h.1.1.1.2.2.2.1.2.2.2.1
  exact ⟨h.1.xq hx, h.2.1.mq hm, h.2.2.1.q hx hm rfl (by decide) ho, h.2.2.2.q hx hm rfl (by decide) ho⟩
theorem Mq.gd' {mo : Nat} {σ : St} {F : Nat} {v : Int32} : ∀ {τ : St}, Mq mo σ τ → (F = 19 ∨ F = 29) → ∀ G a, scr G = false → G ≠ 19 → G ≠ 29 → (τ.sI F mo v).fi G a = σ.fi G a := fun h hF G a hG h1 h2 => by
  rw [fi_sI, up2_ap, if_neg (by omega)]
  exact h.2.2.2.2.2.1 G a hG
