/-! SIMP RULES for the plain law: St's updates, small words, the model object (by gen/mlem.py) -/
set_option maxRecDepth 100000
section
variable {σ : St} {α β γ δ ε ζ : Type}
theorem lo_sI (F a : Nat) (v : Int32) : (σ.sI F a v).lo = σ.lo := rfl
theorem sz_sI (F a : Nat) (v : Int32) : (σ.sI F a v).sz = σ.sz := rfl
theorem rc_sI (F a : Nat) (v : Int32) : (σ.sI F a v).rc = σ.rc := rfl
theorem rs_sI (F a : Nat) (v : Int32) : (σ.sI F a v).rs = σ.rs := rfl
theorem ks_sI (F a : Nat) (v : Int32) : (σ.sI F a v).ks = σ.ks := rfl
theorem ob_sI (F a : Nat) (v : Int32) : (σ.sI F a v).ob = σ.ob := rfl
theorem ln_sI (F a : Nat) (v : Int32) : (σ.sI F a v).ln = σ.ln := rfl
theorem fi_sI (F a : Nat) (v : Int32) : (σ.sI F a v).fi = up2 σ.fi F a v := rfl
theorem fr_sI (F a : Nat) (v : Int32) : (σ.sI F a v).fr = σ.fr := rfl
theorem ai_sI (F a : Nat) (v : Int32) : (σ.sI F a v).ai = σ.ai := rfl
theorem al_sI (F a : Nat) (v : Int32) : (σ.sI F a v).al = σ.al := rfl
theorem ar_sI (F a : Nat) (v : Int32) : (σ.sI F a v).ar = σ.ar := rfl
theorem lo_sR (F a : Nat) (v : Option Nat) : (σ.sR F a v).lo = σ.lo := rfl
theorem sz_sR (F a : Nat) (v : Option Nat) : (σ.sR F a v).sz = σ.sz := rfl
theorem rc_sR (F a : Nat) (v : Option Nat) : (σ.sR F a v).rc = σ.rc := rfl
theorem rs_sR (F a : Nat) (v : Option Nat) : (σ.sR F a v).rs = σ.rs := rfl
theorem ks_sR (F a : Nat) (v : Option Nat) : (σ.sR F a v).ks = σ.ks := rfl
theorem ob_sR (F a : Nat) (v : Option Nat) : (σ.sR F a v).ob = σ.ob := rfl
theorem ln_sR (F a : Nat) (v : Option Nat) : (σ.sR F a v).ln = σ.ln := rfl
theorem fi_sR (F a : Nat) (v : Option Nat) : (σ.sR F a v).fi = σ.fi := rfl
theorem fr_sR (F a : Nat) (v : Option Nat) : (σ.sR F a v).fr = up2 σ.fr F a v := rfl
theorem ai_sR (F a : Nat) (v : Option Nat) : (σ.sR F a v).ai = σ.ai := rfl
theorem al_sR (F a : Nat) (v : Option Nat) : (σ.sR F a v).al = σ.al := rfl
theorem ar_sR (F a : Nat) (v : Option Nat) : (σ.sR F a v).ar = σ.ar := rfl
theorem lo_aI (a : Nat) (g : Nat → Int32) : (σ.aI a g).lo = σ.lo := rfl
theorem sz_aI (a : Nat) (g : Nat → Int32) : (σ.aI a g).sz = σ.sz := rfl
theorem rc_aI (a : Nat) (g : Nat → Int32) : (σ.aI a g).rc = σ.rc := rfl
theorem rs_aI (a : Nat) (g : Nat → Int32) : (σ.aI a g).rs = σ.rs := rfl
theorem ks_aI (a : Nat) (g : Nat → Int32) : (σ.aI a g).ks = σ.ks := rfl
theorem ob_aI (a : Nat) (g : Nat → Int32) : (σ.aI a g).ob = σ.ob := rfl
theorem ln_aI (a : Nat) (g : Nat → Int32) : (σ.aI a g).ln = σ.ln := rfl
theorem fi_aI (a : Nat) (g : Nat → Int32) : (σ.aI a g).fi = σ.fi := rfl
theorem fr_aI (a : Nat) (g : Nat → Int32) : (σ.aI a g).fr = σ.fr := rfl
theorem ai_aI (a : Nat) (g : Nat → Int32) : (σ.aI a g).ai = up1 σ.ai a g := rfl
theorem al_aI (a : Nat) (g : Nat → Int32) : (σ.aI a g).al = σ.al := rfl
theorem ar_aI (a : Nat) (g : Nat → Int32) : (σ.aI a g).ar = σ.ar := rfl
theorem lo_aL (a : Nat) (g : Nat → Int64) : (σ.aL a g).lo = σ.lo := rfl
theorem sz_aL (a : Nat) (g : Nat → Int64) : (σ.aL a g).sz = σ.sz := rfl
theorem rc_aL (a : Nat) (g : Nat → Int64) : (σ.aL a g).rc = σ.rc := rfl
theorem rs_aL (a : Nat) (g : Nat → Int64) : (σ.aL a g).rs = σ.rs := rfl
theorem ks_aL (a : Nat) (g : Nat → Int64) : (σ.aL a g).ks = σ.ks := rfl
theorem ob_aL (a : Nat) (g : Nat → Int64) : (σ.aL a g).ob = σ.ob := rfl
theorem ln_aL (a : Nat) (g : Nat → Int64) : (σ.aL a g).ln = σ.ln := rfl
theorem fi_aL (a : Nat) (g : Nat → Int64) : (σ.aL a g).fi = σ.fi := rfl
theorem fr_aL (a : Nat) (g : Nat → Int64) : (σ.aL a g).fr = σ.fr := rfl
theorem ai_aL (a : Nat) (g : Nat → Int64) : (σ.aL a g).ai = σ.ai := rfl
theorem al_aL (a : Nat) (g : Nat → Int64) : (σ.aL a g).al = up1 σ.al a g := rfl
theorem ar_aL (a : Nat) (g : Nat → Int64) : (σ.aL a g).ar = σ.ar := rfl
theorem lo_aR (a : Nat) (g : Nat → Option Nat) : (σ.aR a g).lo = σ.lo := rfl
theorem sz_aR (a : Nat) (g : Nat → Option Nat) : (σ.aR a g).sz = σ.sz := rfl
theorem rc_aR (a : Nat) (g : Nat → Option Nat) : (σ.aR a g).rc = σ.rc := rfl
theorem rs_aR (a : Nat) (g : Nat → Option Nat) : (σ.aR a g).rs = σ.rs := rfl
theorem ks_aR (a : Nat) (g : Nat → Option Nat) : (σ.aR a g).ks = σ.ks := rfl
theorem ob_aR (a : Nat) (g : Nat → Option Nat) : (σ.aR a g).ob = σ.ob := rfl
theorem ln_aR (a : Nat) (g : Nat → Option Nat) : (σ.aR a g).ln = σ.ln := rfl
theorem fi_aR (a : Nat) (g : Nat → Option Nat) : (σ.aR a g).fi = σ.fi := rfl
theorem fr_aR (a : Nat) (g : Nat → Option Nat) : (σ.aR a g).fr = σ.fr := rfl
theorem ai_aR (a : Nat) (g : Nat → Option Nat) : (σ.aR a g).ai = σ.ai := rfl
theorem al_aR (a : Nat) (g : Nat → Option Nat) : (σ.aR a g).al = σ.al := rfl
theorem ar_aR (a : Nat) (g : Nat → Option Nat) : (σ.aR a g).ar = up1 σ.ar a g := rfl
theorem up2_ap (h : Nat → Nat → α) (f a g b : Nat) (v : α) : up2 h f a v g b = if g = f ∧ b = a then v else h g b := rfl
theorem up1_ap (h : Nat → α) (a b : Nat) (v : α) : up1 h a v b = if b = a then v else h b := rfl
theorem upA_ap (h : Nat → α) (a b : Nat) (v : α) : upA h a v b = if b = a then v else h b := rfl
theorem bp_s (x : β) (k : β → Option α) : bp (some x) k = k x := rfl
theorem bd_s (s : St) (x : β) (k : St → β → Option α) : bd (some (s, x)) k = k s x := rfl
theorem b2_s (x : α) (y : β) (k : α → β → Option ζ) : b2 (some (x, y)) k = k x y := rfl
theorem b3_s (x : α) (y : β) (w : γ) (k : α → β → γ → Option ζ) : b3 (some (x, y, w)) k = k x y w := rfl
theorem b4_s (x : α) (y : β) (w : γ) (u : δ) (k : α → β → γ → δ → Option ζ) : b4 (some (x, y, w, u)) k = k x y w u := rfl
theorem b5_s (x : α) (y : β) (w : γ) (u : δ) (t : ε) (k : α → β → γ → δ → ε → Option ζ) : b5 (some (x, y, w, u, t)) k = k x y w u t := rfl
theorem lc_l (r : ζ) (k : α → Option ζ) : lc (some (.inl r)) k = some r := rfl
theorem lc_r (v : α) (k : α → Option ζ) : lc (some (.inr v)) k = k v := rfl
theorem lc2_l (r : ζ) (k : α → β → Option ζ) : lc2 (some (.inl r)) k = some r := rfl
theorem lc2_r (v : α) (w : β) (k : α → β → Option ζ) : lc2 (some (.inr (v, w))) k = k v w := rfl
theorem lcI_l (r : ζ) (k : α → Option (ζ ⊕ β)) : lcI (some (.inl r)) k = some (.inl r) := rfl
theorem lcI_r (v : α) (k : α → Option (ζ ⊕ β)) : lcI (some (.inr v)) k = k v := rfl
theorem xN_s (b : Nat) (k : Nat → Option α) : xN (some b) k = k b := rfl
theorem ok_t (k : Option α) : ok true k = k := rfl
theorem lit_nI (n : Nat) : (OfNat.ofNat n : Int32) = nI n := rfl
theorem okZ_0 : okZ (nI 0) = true := rfl
theorem okZ_1 : okZ (nI 1) = true := rfl
theorem nI_le' {a b : Nat} (ha : a < 2147483648) (hb : b < 2147483648) : (nI a ≤ nI b) = (a ≤ b) := propext (nI_leI ha hb)
theorem nI_lt' {a b : Nat} (ha : a < 2147483648) (hb : b < 2147483648) : (nI a < nI b) = (a < b) := propext (nI_ltI ha hb)
theorem nI_eq' {a b : Nat} (ha : a < 2147483648) (hb : b < 2147483648) : (nI a = nI b) = (a = b) := propext (nI_eq ha hb)
theorem inB_nI {i n : Nat} (h : i < n) (hi : i < 2147483648) : inB (nI i) n = true := in_inB (fun q => by
  rcases q with q | q
  · exact nI_pos hi q
  · rw [nI_clamp hi] at q; omega)
theorem dz_nI {n : Nat} {k : Option α} (h : 0 < n) (hn : n < 2147483648) : dzI (nI n) k = k := if_neg (nI_ne0 h hn)
end

-- names: lo_sI sz_sI rc_sI rs_sI ks_sI ob_sI ln_sI fi_sI fr_sI ai_sI al_sI ar_sI lo_sR sz_sR rc_sR rs_sR ks_sR ob_sR ln_sR fi_sR fr_sR ai_sR al_sR ar_sR lo_aI sz_aI rc_aI rs_aI ks_aI ob_aI ln_aI fi_aI fr_aI ai_aI al_aI ar_aI lo_aL sz_aL rc_aL rs_aL ks_aL ob_aL ln_aL fi_aL fr_aL ai_aL al_aL ar_aL lo_aR sz_aR rc_aR rs_aR ks_aR ob_aR ln_aR fi_aR fr_aR ai_aR al_aR ar_aR
/-- the model stands at mo, its arrays behind it -/
def MS (σ : St) (mo : Nat) : Prop := σ.ob mo = 7 ∧ σ.lo ≤ mo ∧ σ.fr 1009 mo = some (mo + 1) ∧ σ.fr 1010 mo = some (mo + 2) ∧ σ.fr 1011 mo = some (mo + 3) ∧ σ.fr 1012 mo = some (mo + 4) ∧ σ.fr 1013 mo = some (mo + 5) ∧ σ.fr 1014 mo = some (mo + 6) ∧ σ.fr 1015 mo = some (mo + 7) ∧ σ.fr 1016 mo = some (mo + 8) ∧ σ.fr 1017 mo = some (mo + 9) ∧ σ.fr 1018 mo = some (mo + 10) ∧ σ.fr 1019 mo = some (mo + 11) ∧ σ.ob (mo + 1) = 1 ∧ σ.ob (mo + 2) = 1 ∧ σ.ob (mo + 3) = 1 ∧ σ.ob (mo + 4) = 1 ∧ σ.ob (mo + 5) = 1 ∧ σ.ob (mo + 6) = 1 ∧ σ.ob (mo + 7) = 1 ∧ σ.ob (mo + 8) = 1 ∧ σ.ob (mo + 9) = 1 ∧ σ.ob (mo + 10) = 1 ∧ σ.ob (mo + 11) = 1 ∧ σ.ln (mo + 1) = 900 ∧ σ.ln (mo + 2) = 8 ∧ σ.ln (mo + 3) = 241 ∧ σ.ln (mo + 4) = 241 ∧ σ.ln (mo + 5) = 8 ∧ σ.ln (mo + 6) = 128 ∧ σ.ln (mo + 7) = 24 ∧ σ.ln (mo + 8) = 8 ∧ σ.ln (mo + 9) = 6 ∧ σ.ln (mo + 10) = 6 ∧ σ.ln (mo + 11) = 4
section
variable {σ : St} {mo n : Nat} {α : Type}
theorem MS_sI {F a : Nat} {v : Int32} : MS (σ.sI F a v) mo = MS σ mo := rfl
theorem MS_aI {a : Nat} {g : Nat → Int32} : MS (σ.aI a g) mo = MS σ mo := rfl
theorem M_kd (h : MS σ mo) (k : Option α) : kd σ mo 7 k = k := if_pos h.1
theorem M_gI' (h : MS σ mo) {F : Nat} (hF : hasF fidT F 7 = true) (k : Int32 → Option α) : gI σ F (some mo) k = k (σ.fi F mo) := by
  show (if hasF fidT F (σ.ob mo) then _ else none) = _
  rw [h.1, hF]; rfl
theorem M_pI' (h : MS σ mo) {F : Nat} (hF : hasF fidT F 7 = true) (v : Int32) (k : St → Option α) : pI σ F (some mo) v k = k (σ.sI F mo v) := by
  show (if hasF fidT F (σ.ob mo) && decide (σ.lo ≤ mo) then _ else none) = _
  rw [h.1, hF, decide_eq_true h.2.1]; rfl
theorem M_gR' (h : σ.ob mo = 7) {F : Nat} (hF : hasF fidT F 7 = true) (k : Option Nat → Option α) : gR σ F (some mo) k = k (σ.fr F mo) := by
  show (if hasF fidT F (σ.ob mo) then _ else none) = _
  rw [h, hF]; rfl
theorem lI_ap {a c len : Nat} (h1 : σ.ob a = c) (h2 : σ.ln a = len) (hn : n < len) (hl : len < 2147483648) (k : Int32 → Option α) : lI σ c (some a) (nI n) k = k (σ.ai a n) := by
  show (if decide (σ.ob a = c) && inB (nI n) (σ.ln a) then _ else none) = _
  rw [decide_eq_true h1, h2, inB_nI hn (by omega), nI_clamp (by omega)]; rfl
theorem tI_ap {a len : Nat} (h1 : σ.ob a = 1) (h0 : σ.lo ≤ a) (h2 : σ.ln a = len) (hn : n < len) (hl : len < 2147483648) (x : Int32) (k : St → Option α) : tI σ (some a) (nI n) x k = k (σ.aI a (upA (σ.ai a) n x)) := by
  show (if (decide (σ.ob a = 1) && inB (nI n) (σ.ln a)) && decide (σ.lo ≤ a) then _ else none) = _
  rw [decide_eq_true h1, h2, inB_nI hn (by omega), nI_clamp (by omega), decide_eq_true h0]; rfl
theorem M_g19 (h : MS σ mo) (k : Int32 → Option α) : gI σ 19 (some mo) k = k (σ.fi 19 mo) := M_gI' h rfl k
theorem M_p19 (h : MS σ mo) (v : Int32) (k : St → Option α) : pI σ 19 (some mo) v k = k (σ.sI 19 mo v) := M_pI' h rfl v k
theorem M_g20 (h : MS σ mo) (k : Int32 → Option α) : gI σ 20 (some mo) k = k (σ.fi 20 mo) := M_gI' h rfl k
theorem M_p20 (h : MS σ mo) (v : Int32) (k : St → Option α) : pI σ 20 (some mo) v k = k (σ.sI 20 mo v) := M_pI' h rfl v k
theorem M_g21 (h : MS σ mo) (k : Int32 → Option α) : gI σ 21 (some mo) k = k (σ.fi 21 mo) := M_gI' h rfl k
theorem M_p21 (h : MS σ mo) (v : Int32) (k : St → Option α) : pI σ 21 (some mo) v k = k (σ.sI 21 mo v) := M_pI' h rfl v k
theorem M_g22 (h : MS σ mo) (k : Int32 → Option α) : gI σ 22 (some mo) k = k (σ.fi 22 mo) := M_gI' h rfl k
theorem M_p22 (h : MS σ mo) (v : Int32) (k : St → Option α) : pI σ 22 (some mo) v k = k (σ.sI 22 mo v) := M_pI' h rfl v k
theorem M_g23 (h : MS σ mo) (k : Int32 → Option α) : gI σ 23 (some mo) k = k (σ.fi 23 mo) := M_gI' h rfl k
theorem M_p23 (h : MS σ mo) (v : Int32) (k : St → Option α) : pI σ 23 (some mo) v k = k (σ.sI 23 mo v) := M_pI' h rfl v k
theorem M_g24 (h : MS σ mo) (k : Int32 → Option α) : gI σ 24 (some mo) k = k (σ.fi 24 mo) := M_gI' h rfl k
theorem M_p24 (h : MS σ mo) (v : Int32) (k : St → Option α) : pI σ 24 (some mo) v k = k (σ.sI 24 mo v) := M_pI' h rfl v k
theorem M_g25 (h : MS σ mo) (k : Int32 → Option α) : gI σ 25 (some mo) k = k (σ.fi 25 mo) := M_gI' h rfl k
theorem M_p25 (h : MS σ mo) (v : Int32) (k : St → Option α) : pI σ 25 (some mo) v k = k (σ.sI 25 mo v) := M_pI' h rfl v k
theorem M_g26 (h : MS σ mo) (k : Int32 → Option α) : gI σ 26 (some mo) k = k (σ.fi 26 mo) := M_gI' h rfl k
theorem M_p26 (h : MS σ mo) (v : Int32) (k : St → Option α) : pI σ 26 (some mo) v k = k (σ.sI 26 mo v) := M_pI' h rfl v k
theorem M_g27 (h : MS σ mo) (k : Int32 → Option α) : gI σ 27 (some mo) k = k (σ.fi 27 mo) := M_gI' h rfl k
theorem M_p27 (h : MS σ mo) (v : Int32) (k : St → Option α) : pI σ 27 (some mo) v k = k (σ.sI 27 mo v) := M_pI' h rfl v k
theorem M_g28 (h : MS σ mo) (k : Int32 → Option α) : gI σ 28 (some mo) k = k (σ.fi 28 mo) := M_gI' h rfl k
theorem M_p28 (h : MS σ mo) (v : Int32) (k : St → Option α) : pI σ 28 (some mo) v k = k (σ.sI 28 mo v) := M_pI' h rfl v k
theorem M_g29 (h : MS σ mo) (k : Int32 → Option α) : gI σ 29 (some mo) k = k (σ.fi 29 mo) := M_gI' h rfl k
theorem M_p29 (h : MS σ mo) (v : Int32) (k : St → Option α) : pI σ 29 (some mo) v k = k (σ.sI 29 mo v) := M_pI' h rfl v k
theorem M_g30 (h : MS σ mo) (k : Int32 → Option α) : gI σ 30 (some mo) k = k (σ.fi 30 mo) := M_gI' h rfl k
theorem M_p30 (h : MS σ mo) (v : Int32) (k : St → Option α) : pI σ 30 (some mo) v k = k (σ.sI 30 mo v) := M_pI' h rfl v k
theorem M_g31 (h : MS σ mo) (k : Int32 → Option α) : gI σ 31 (some mo) k = k (σ.fi 31 mo) := M_gI' h rfl k
theorem M_p31 (h : MS σ mo) (v : Int32) (k : St → Option α) : pI σ 31 (some mo) v k = k (σ.sI 31 mo v) := M_pI' h rfl v k
theorem M_g32 (h : MS σ mo) (k : Int32 → Option α) : gI σ 32 (some mo) k = k (σ.fi 32 mo) := M_gI' h rfl k
theorem M_p32 (h : MS σ mo) (v : Int32) (k : St → Option α) : pI σ 32 (some mo) v k = k (σ.sI 32 mo v) := M_pI' h rfl v k
theorem M_g33 (h : MS σ mo) (k : Int32 → Option α) : gI σ 33 (some mo) k = k (σ.fi 33 mo) := M_gI' h rfl k
theorem M_p33 (h : MS σ mo) (v : Int32) (k : St → Option α) : pI σ 33 (some mo) v k = k (σ.sI 33 mo v) := M_pI' h rfl v k
theorem M_g34 (h : MS σ mo) (k : Int32 → Option α) : gI σ 34 (some mo) k = k (σ.fi 34 mo) := M_gI' h rfl k
theorem M_p34 (h : MS σ mo) (v : Int32) (k : St → Option α) : pI σ 34 (some mo) v k = k (σ.sI 34 mo v) := M_pI' h rfl v k
theorem M_g35 (h : MS σ mo) (k : Int32 → Option α) : gI σ 35 (some mo) k = k (σ.fi 35 mo) := M_gI' h rfl k
theorem M_p35 (h : MS σ mo) (v : Int32) (k : St → Option α) : pI σ 35 (some mo) v k = k (σ.sI 35 mo v) := M_pI' h rfl v k
theorem M_g36 (h : MS σ mo) (k : Int32 → Option α) : gI σ 36 (some mo) k = k (σ.fi 36 mo) := M_gI' h rfl k
theorem M_p36 (h : MS σ mo) (v : Int32) (k : St → Option α) : pI σ 36 (some mo) v k = k (σ.sI 36 mo v) := M_pI' h rfl v k
theorem M_g37 (h : MS σ mo) (k : Int32 → Option α) : gI σ 37 (some mo) k = k (σ.fi 37 mo) := M_gI' h rfl k
theorem M_p37 (h : MS σ mo) (v : Int32) (k : St → Option α) : pI σ 37 (some mo) v k = k (σ.sI 37 mo v) := M_pI' h rfl v k
theorem M_g38 (h : MS σ mo) (k : Int32 → Option α) : gI σ 38 (some mo) k = k (σ.fi 38 mo) := M_gI' h rfl k
theorem M_p38 (h : MS σ mo) (v : Int32) (k : St → Option α) : pI σ 38 (some mo) v k = k (σ.sI 38 mo v) := M_pI' h rfl v k
theorem M_g39 (h : MS σ mo) (k : Int32 → Option α) : gI σ 39 (some mo) k = k (σ.fi 39 mo) := M_gI' h rfl k
theorem M_p39 (h : MS σ mo) (v : Int32) (k : St → Option α) : pI σ 39 (some mo) v k = k (σ.sI 39 mo v) := M_pI' h rfl v k
theorem M_g40 (h : MS σ mo) (k : Int32 → Option α) : gI σ 40 (some mo) k = k (σ.fi 40 mo) := M_gI' h rfl k
theorem M_p40 (h : MS σ mo) (v : Int32) (k : St → Option α) : pI σ 40 (some mo) v k = k (σ.sI 40 mo v) := M_pI' h rfl v k
theorem M_g41 (h : MS σ mo) (k : Int32 → Option α) : gI σ 41 (some mo) k = k (σ.fi 41 mo) := M_gI' h rfl k
theorem M_p41 (h : MS σ mo) (v : Int32) (k : St → Option α) : pI σ 41 (some mo) v k = k (σ.sI 41 mo v) := M_pI' h rfl v k
theorem M_g42 (h : MS σ mo) (k : Int32 → Option α) : gI σ 42 (some mo) k = k (σ.fi 42 mo) := M_gI' h rfl k
theorem M_p42 (h : MS σ mo) (v : Int32) (k : St → Option α) : pI σ 42 (some mo) v k = k (σ.sI 42 mo v) := M_pI' h rfl v k
theorem M_g43 (h : MS σ mo) (k : Int32 → Option α) : gI σ 43 (some mo) k = k (σ.fi 43 mo) := M_gI' h rfl k
theorem M_p43 (h : MS σ mo) (v : Int32) (k : St → Option α) : pI σ 43 (some mo) v k = k (σ.sI 43 mo v) := M_pI' h rfl v k
theorem M_g44 (h : MS σ mo) (k : Int32 → Option α) : gI σ 44 (some mo) k = k (σ.fi 44 mo) := M_gI' h rfl k
theorem M_p44 (h : MS σ mo) (v : Int32) (k : St → Option α) : pI σ 44 (some mo) v k = k (σ.sI 44 mo v) := M_pI' h rfl v k
theorem M_r1009 (h : MS σ mo) (k : Option Nat → Option α) : gR σ 1009 (some mo) k = k (some (mo + 1)) := by rw [M_gR' h.1 rfl, h.2.2.1]
theorem M_l1 (h : MS σ mo) {n : Nat} (hn : n < 900) (k : Int32 → Option α) : lI σ 1 (some (mo + 1)) (nI n) k = k (σ.ai (mo + 1) n) := lI_ap (h.2.2.2.2.2.2.2.2.2.2.2.2.2.1) (h.2.2.2.2.2.2.2.2.2.2.2.2.2.2.2.2.2.2.2.2.2.2.2.2.1) hn (by decide) k
theorem M_t1 (h : MS σ mo) {n : Nat} (hn : n < 900) (x : Int32) (k : St → Option α) : tI σ (some (mo + 1)) (nI n) x k = k (σ.aI (mo + 1) (upA (σ.ai (mo + 1)) n x)) := tI_ap (h.2.2.2.2.2.2.2.2.2.2.2.2.2.1) (by have := h.2.1; omega) (h.2.2.2.2.2.2.2.2.2.2.2.2.2.2.2.2.2.2.2.2.2.2.2.2.1) hn (by decide) x k
theorem M_r1010 (h : MS σ mo) (k : Option Nat → Option α) : gR σ 1010 (some mo) k = k (some (mo + 2)) := by rw [M_gR' h.1 rfl, h.2.2.2.1]
theorem M_l2 (h : MS σ mo) {n : Nat} (hn : n < 8) (k : Int32 → Option α) : lI σ 1 (some (mo + 2)) (nI n) k = k (σ.ai (mo + 2) n) := lI_ap (h.2.2.2.2.2.2.2.2.2.2.2.2.2.2.1) (h.2.2.2.2.2.2.2.2.2.2.2.2.2.2.2.2.2.2.2.2.2.2.2.2.2.1) hn (by decide) k
theorem M_t2 (h : MS σ mo) {n : Nat} (hn : n < 8) (x : Int32) (k : St → Option α) : tI σ (some (mo + 2)) (nI n) x k = k (σ.aI (mo + 2) (upA (σ.ai (mo + 2)) n x)) := tI_ap (h.2.2.2.2.2.2.2.2.2.2.2.2.2.2.1) (by have := h.2.1; omega) (h.2.2.2.2.2.2.2.2.2.2.2.2.2.2.2.2.2.2.2.2.2.2.2.2.2.1) hn (by decide) x k
theorem M_r1011 (h : MS σ mo) (k : Option Nat → Option α) : gR σ 1011 (some mo) k = k (some (mo + 3)) := by rw [M_gR' h.1 rfl, h.2.2.2.2.1]
theorem M_l3 (h : MS σ mo) {n : Nat} (hn : n < 241) (k : Int32 → Option α) : lI σ 1 (some (mo + 3)) (nI n) k = k (σ.ai (mo + 3) n) := lI_ap (h.2.2.2.2.2.2.2.2.2.2.2.2.2.2.2.1) (h.2.2.2.2.2.2.2.2.2.2.2.2.2.2.2.2.2.2.2.2.2.2.2.2.2.2.1) hn (by decide) k
theorem M_t3 (h : MS σ mo) {n : Nat} (hn : n < 241) (x : Int32) (k : St → Option α) : tI σ (some (mo + 3)) (nI n) x k = k (σ.aI (mo + 3) (upA (σ.ai (mo + 3)) n x)) := tI_ap (h.2.2.2.2.2.2.2.2.2.2.2.2.2.2.2.1) (by have := h.2.1; omega) (h.2.2.2.2.2.2.2.2.2.2.2.2.2.2.2.2.2.2.2.2.2.2.2.2.2.2.1) hn (by decide) x k
theorem M_r1012 (h : MS σ mo) (k : Option Nat → Option α) : gR σ 1012 (some mo) k = k (some (mo + 4)) := by rw [M_gR' h.1 rfl, h.2.2.2.2.2.1]
theorem M_l4 (h : MS σ mo) {n : Nat} (hn : n < 241) (k : Int32 → Option α) : lI σ 1 (some (mo + 4)) (nI n) k = k (σ.ai (mo + 4) n) := lI_ap (h.2.2.2.2.2.2.2.2.2.2.2.2.2.2.2.2.1) (h.2.2.2.2.2.2.2.2.2.2.2.2.2.2.2.2.2.2.2.2.2.2.2.2.2.2.2.1) hn (by decide) k
theorem M_t4 (h : MS σ mo) {n : Nat} (hn : n < 241) (x : Int32) (k : St → Option α) : tI σ (some (mo + 4)) (nI n) x k = k (σ.aI (mo + 4) (upA (σ.ai (mo + 4)) n x)) := tI_ap (h.2.2.2.2.2.2.2.2.2.2.2.2.2.2.2.2.1) (by have := h.2.1; omega) (h.2.2.2.2.2.2.2.2.2.2.2.2.2.2.2.2.2.2.2.2.2.2.2.2.2.2.2.1) hn (by decide) x k
theorem M_r1013 (h : MS σ mo) (k : Option Nat → Option α) : gR σ 1013 (some mo) k = k (some (mo + 5)) := by rw [M_gR' h.1 rfl, h.2.2.2.2.2.2.1]
theorem M_l5 (h : MS σ mo) {n : Nat} (hn : n < 8) (k : Int32 → Option α) : lI σ 1 (some (mo + 5)) (nI n) k = k (σ.ai (mo + 5) n) := lI_ap (h.2.2.2.2.2.2.2.2.2.2.2.2.2.2.2.2.2.1) (h.2.2.2.2.2.2.2.2.2.2.2.2.2.2.2.2.2.2.2.2.2.2.2.2.2.2.2.2.1) hn (by decide) k
theorem M_t5 (h : MS σ mo) {n : Nat} (hn : n < 8) (x : Int32) (k : St → Option α) : tI σ (some (mo + 5)) (nI n) x k = k (σ.aI (mo + 5) (upA (σ.ai (mo + 5)) n x)) := tI_ap (h.2.2.2.2.2.2.2.2.2.2.2.2.2.2.2.2.2.1) (by have := h.2.1; omega) (h.2.2.2.2.2.2.2.2.2.2.2.2.2.2.2.2.2.2.2.2.2.2.2.2.2.2.2.2.1) hn (by decide) x k
theorem M_r1014 (h : MS σ mo) (k : Option Nat → Option α) : gR σ 1014 (some mo) k = k (some (mo + 6)) := by rw [M_gR' h.1 rfl, h.2.2.2.2.2.2.2.1]
theorem M_l6 (h : MS σ mo) {n : Nat} (hn : n < 128) (k : Int32 → Option α) : lI σ 1 (some (mo + 6)) (nI n) k = k (σ.ai (mo + 6) n) := lI_ap (h.2.2.2.2.2.2.2.2.2.2.2.2.2.2.2.2.2.2.1) (h.2.2.2.2.2.2.2.2.2.2.2.2.2.2.2.2.2.2.2.2.2.2.2.2.2.2.2.2.2.1) hn (by decide) k
theorem M_t6 (h : MS σ mo) {n : Nat} (hn : n < 128) (x : Int32) (k : St → Option α) : tI σ (some (mo + 6)) (nI n) x k = k (σ.aI (mo + 6) (upA (σ.ai (mo + 6)) n x)) := tI_ap (h.2.2.2.2.2.2.2.2.2.2.2.2.2.2.2.2.2.2.1) (by have := h.2.1; omega) (h.2.2.2.2.2.2.2.2.2.2.2.2.2.2.2.2.2.2.2.2.2.2.2.2.2.2.2.2.2.1) hn (by decide) x k
theorem M_r1015 (h : MS σ mo) (k : Option Nat → Option α) : gR σ 1015 (some mo) k = k (some (mo + 7)) := by rw [M_gR' h.1 rfl, h.2.2.2.2.2.2.2.2.1]
theorem M_l7 (h : MS σ mo) {n : Nat} (hn : n < 24) (k : Int32 → Option α) : lI σ 1 (some (mo + 7)) (nI n) k = k (σ.ai (mo + 7) n) := lI_ap (h.2.2.2.2.2.2.2.2.2.2.2.2.2.2.2.2.2.2.2.1) (h.2.2.2.2.2.2.2.2.2.2.2.2.2.2.2.2.2.2.2.2.2.2.2.2.2.2.2.2.2.2.1) hn (by decide) k
theorem M_t7 (h : MS σ mo) {n : Nat} (hn : n < 24) (x : Int32) (k : St → Option α) : tI σ (some (mo + 7)) (nI n) x k = k (σ.aI (mo + 7) (upA (σ.ai (mo + 7)) n x)) := tI_ap (h.2.2.2.2.2.2.2.2.2.2.2.2.2.2.2.2.2.2.2.1) (by have := h.2.1; omega) (h.2.2.2.2.2.2.2.2.2.2.2.2.2.2.2.2.2.2.2.2.2.2.2.2.2.2.2.2.2.2.1) hn (by decide) x k
theorem M_r1016 (h : MS σ mo) (k : Option Nat → Option α) : gR σ 1016 (some mo) k = k (some (mo + 8)) := by rw [M_gR' h.1 rfl, h.2.2.2.2.2.2.2.2.2.1]
theorem M_l8 (h : MS σ mo) {n : Nat} (hn : n < 8) (k : Int32 → Option α) : lI σ 1 (some (mo + 8)) (nI n) k = k (σ.ai (mo + 8) n) := lI_ap (h.2.2.2.2.2.2.2.2.2.2.2.2.2.2.2.2.2.2.2.2.1) (h.2.2.2.2.2.2.2.2.2.2.2.2.2.2.2.2.2.2.2.2.2.2.2.2.2.2.2.2.2.2.2.1) hn (by decide) k
theorem M_t8 (h : MS σ mo) {n : Nat} (hn : n < 8) (x : Int32) (k : St → Option α) : tI σ (some (mo + 8)) (nI n) x k = k (σ.aI (mo + 8) (upA (σ.ai (mo + 8)) n x)) := tI_ap (h.2.2.2.2.2.2.2.2.2.2.2.2.2.2.2.2.2.2.2.2.1) (by have := h.2.1; omega) (h.2.2.2.2.2.2.2.2.2.2.2.2.2.2.2.2.2.2.2.2.2.2.2.2.2.2.2.2.2.2.2.1) hn (by decide) x k
theorem M_r1017 (h : MS σ mo) (k : Option Nat → Option α) : gR σ 1017 (some mo) k = k (some (mo + 9)) := by rw [M_gR' h.1 rfl, h.2.2.2.2.2.2.2.2.2.2.1]
theorem M_l9 (h : MS σ mo) {n : Nat} (hn : n < 6) (k : Int32 → Option α) : lI σ 1 (some (mo + 9)) (nI n) k = k (σ.ai (mo + 9) n) := lI_ap (h.2.2.2.2.2.2.2.2.2.2.2.2.2.2.2.2.2.2.2.2.2.1) (h.2.2.2.2.2.2.2.2.2.2.2.2.2.2.2.2.2.2.2.2.2.2.2.2.2.2.2.2.2.2.2.2.1) hn (by decide) k
theorem M_t9 (h : MS σ mo) {n : Nat} (hn : n < 6) (x : Int32) (k : St → Option α) : tI σ (some (mo + 9)) (nI n) x k = k (σ.aI (mo + 9) (upA (σ.ai (mo + 9)) n x)) := tI_ap (h.2.2.2.2.2.2.2.2.2.2.2.2.2.2.2.2.2.2.2.2.2.1) (by have := h.2.1; omega) (h.2.2.2.2.2.2.2.2.2.2.2.2.2.2.2.2.2.2.2.2.2.2.2.2.2.2.2.2.2.2.2.2.1) hn (by decide) x k
theorem M_r1018 (h : MS σ mo) (k : Option Nat → Option α) : gR σ 1018 (some mo) k = k (some (mo + 10)) := by rw [M_gR' h.1 rfl, h.2.2.2.2.2.2.2.2.2.2.2.1]
theorem M_l10 (h : MS σ mo) {n : Nat} (hn : n < 6) (k : Int32 → Option α) : lI σ 1 (some (mo + 10)) (nI n) k = k (σ.ai (mo + 10) n) := lI_ap (h.2.2.2.2.2.2.2.2.2.2.2.2.2.2.2.2.2.2.2.2.2.2.1) (h.2.2.2.2.2.2.2.2.2.2.2.2.2.2.2.2.2.2.2.2.2.2.2.2.2.2.2.2.2.2.2.2.2.1) hn (by decide) k
theorem M_t10 (h : MS σ mo) {n : Nat} (hn : n < 6) (x : Int32) (k : St → Option α) : tI σ (some (mo + 10)) (nI n) x k = k (σ.aI (mo + 10) (upA (σ.ai (mo + 10)) n x)) := tI_ap (h.2.2.2.2.2.2.2.2.2.2.2.2.2.2.2.2.2.2.2.2.2.2.1) (by have := h.2.1; omega) (h.2.2.2.2.2.2.2.2.2.2.2.2.2.2.2.2.2.2.2.2.2.2.2.2.2.2.2.2.2.2.2.2.2.1) hn (by decide) x k
theorem M_r1019 (h : MS σ mo) (k : Option Nat → Option α) : gR σ 1019 (some mo) k = k (some (mo + 11)) := by rw [M_gR' h.1 rfl, h.2.2.2.2.2.2.2.2.2.2.2.2.1]
theorem M_l11 (h : MS σ mo) {n : Nat} (hn : n < 4) (k : Int32 → Option α) : lI σ 1 (some (mo + 11)) (nI n) k = k (σ.ai (mo + 11) n) := lI_ap (h.2.2.2.2.2.2.2.2.2.2.2.2.2.2.2.2.2.2.2.2.2.2.2.1) (h.2.2.2.2.2.2.2.2.2.2.2.2.2.2.2.2.2.2.2.2.2.2.2.2.2.2.2.2.2.2.2.2.2.2) hn (by decide) k
theorem M_t11 (h : MS σ mo) {n : Nat} (hn : n < 4) (x : Int32) (k : St → Option α) : tI σ (some (mo + 11)) (nI n) x k = k (σ.aI (mo + 11) (upA (σ.ai (mo + 11)) n x)) := tI_ap (h.2.2.2.2.2.2.2.2.2.2.2.2.2.2.2.2.2.2.2.2.2.2.2.1) (by have := h.2.1; omega) (h.2.2.2.2.2.2.2.2.2.2.2.2.2.2.2.2.2.2.2.2.2.2.2.2.2.2.2.2.2.2.2.2.2.2) hn (by decide) x k
end
