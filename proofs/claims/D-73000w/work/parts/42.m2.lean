/-! THE MODEL: a run -/
set_option maxRecDepth 100000
def zI (z : Int) : Int32 := Int32.ofInt z
theorem nI_z (n : Nat) : nI n = zI (n : Int) := Int32.ofInt_eq_ofNat.symm
theorem zI_add (a b : Int) : zI a + zI b = zI (a + b) := (Int32.ofInt_add a b).symm
theorem zI_sub (a b : Int) : zI a - zI b = zI (a - b) := (Int32.ofInt_sub a b).symm
theorem zI_neg (a : Int) : -zI a = zI (-a) := (Int32.ofInt_neg a).symm
theorem zI_int {a : Int} (h1 : -2147483648 ≤ a) (h2 : a < 2147483648) : (zI a).toInt = a := Int32.toInt_ofInt_of_le h1 h2
theorem zI_le {a b : Int} (h1 : -2147483648 ≤ a) (h2 : a < 2147483648) (h3 : -2147483648 ≤ b) (h4 : b < 2147483648) : (zI a ≤ zI b) = (a ≤ b) := by
  rw [Int32.le_iff_toInt_le, zI_int h1 h2, zI_int h3 h4]
theorem zI_lt {a b : Int} (h1 : -2147483648 ≤ a) (h2 : a < 2147483648) (h3 : -2147483648 ≤ b) (h4 : b < 2147483648) : (zI a < zI b) = (a < b) := by
  rw [Int32.lt_iff_toInt_lt, zI_int h1 h2, zI_int h3 h4]
theorem zI_eq {a b : Int} (h1 : -2147483648 ≤ a) (h2 : a < 2147483648) (h3 : -2147483648 ≤ b) (h4 : b < 2147483648) : (zI a = zI b) = (a = b) := by
  rw [← Int32.toInt_inj, zI_int h1 h2, zI_int h3 h4]
/-- only int fields that P names may differ -/
def Mf (P : Nat → Bool) (σ τ : St) : Prop := τ.nn = σ.nn ∧ τ.ob = σ.ob ∧ τ.ln = σ.ln ∧ τ.fr = σ.fr ∧ τ.ai = σ.ai ∧ τ.al = σ.al ∧ τ.ar = σ.ar ∧ ∀ F a, P F = false → τ.fi F a = σ.fi F a
theorem Mf.rf (P : Nat → Bool) (σ : St) : Mf P σ σ := ⟨rfl, rfl, rfl, rfl, rfl, rfl, rfl, fun _ _ _ => rfl⟩
theorem Mf.tr {P : Nat → Bool} {σ τ υ : St} (h : Mf P σ τ) (k : Mf P τ υ) : Mf P σ υ :=
  ⟨k.1.trans h.1, k.2.1.trans h.2.1, k.2.2.1.trans h.2.2.1, k.2.2.2.1.trans h.2.2.2.1, k.2.2.2.2.1.trans h.2.2.2.2.1, k.2.2.2.2.2.1.trans h.2.2.2.2.2.1, k.2.2.2.2.2.2.1.trans h.2.2.2.2.2.2.1, fun F a hF => (k.2.2.2.2.2.2.2 F a hF).trans (h.2.2.2.2.2.2.2 F a hF)⟩
theorem Mf.sI {P : Nat → Bool} {σ τ : St} (h : Mf P σ τ) {F a : Nat} {v : Int32} (hF : P F = true) : Mf P σ (τ.sI F a v) :=
  h.tr ⟨rfl, rfl, rfl, rfl, rfl, rfl, rfl, fun G b hG => if_neg (fun q => by rw [q.1, hF] at hG; cases hG)⟩
theorem Mf.mono {P Q : Nat → Bool} {σ τ : St} (h : Mf P σ τ) (hq : ∀ F, Q F = false → P F = false) : Mf Q σ τ :=
  ⟨h.1, h.2.1, h.2.2.1, h.2.2.2.1, h.2.2.2.2.1, h.2.2.2.2.2.1, h.2.2.2.2.2.2.1, fun F a hF => h.2.2.2.2.2.2.2 F a (hq F hF)⟩
theorem Mf.mq {P : Nat → Bool} {σ τ : St} (mo : Nat) (h : Mf P σ τ) (hq : ∀ F, scr F = false → P F = false) : Mq mo σ τ :=
  ⟨h.1, h.2.1, h.2.2.1, h.2.2.2.1, fun a _ => by rw [h.2.2.2.2.1], fun F a hF => h.2.2.2.2.2.2.2 F a (hq F hF), h.2.2.2.2.2.1, h.2.2.2.2.2.2.1⟩
theorem Mf.ms {P : Nat → Bool} {mo : Nat} {σ τ : St} (h : Mf P σ τ) (hm : MS σ mo) : MS τ mo := by
  obtain ⟨h1, h2, h3, h4, -⟩ := h
  have e : τ.lo = σ.lo := by simp only [St.lo, h1]
  unfold MS
  rw [h2, h3, h4, e]
  exact hm
theorem Mf.ar {P : Nat → Bool} {mo j len : Nat} {σ τ : St} {f : Nat → Nat} (h : Mf P σ τ) (hm : AR σ mo j len f) : AR τ mo j len f := fun i hi => by
  rw [h.2.2.2.2.1]; exact hm i hi
theorem Mf.tt {P : Nat → Bool} {mo : Nat} {σ τ : St} {R wt ey : Nat → Nat} (h : Mf P σ τ) (hm : TR σ mo R wt ey) : TR τ mo R wt ey :=
  ⟨fun i hi => by rw [h.2.2.2.2.1]; exact hm.1 i hi, fun i hi => by rw [h.2.2.2.2.1]; exact hm.2 i hi⟩
/-- does a boy come; B: no boys; by draws; by bits -/
def cmS (B : Option (Option Nat)) (r0 i dr : Nat) : Nat × Nat :=
  match B with
  | none => (0, dr)
  | some none => (b1 (decide ((75 * dr + 74) % 65537 % 100 < r0)), (75 * dr + 74) % 65537)
  | some (some s) => (b1 (decide (i < 6) && s.testBit i), dr)
theorem cmS_n (r0 i dr : Nat) : cmS (some none) r0 i dr = (b1 (decide ((75 * dr + 74) % 65537 % 100 < r0)), (75 * dr + 74) % 65537) := rfl
theorem cmS_s (s r0 i dr : Nat) : cmS (some (some s)) r0 i dr = (b1 (decide (i < 6) && s.testBit i), dr) := rfl
theorem cmS_le (B : Option (Option Nat)) (r0 i dr : Nat) : (cmS B r0 i dr).1 ≤ 1 := by
  unfold cmS
  split
  · exact Nat.zero_le _
  · show b1 _ ≤ 1
    unfold b1; split <;> omega
  · show b1 _ ≤ 1
    unfold b1; split <;> omega
def BB (σ : St) (mo : Nat) (B : Option (Option Nat)) (dr : Nat) : Prop :=
  match B with
  | none => True
  | some none => σ.fi 39 mo = -1 ∧ σ.fi 40 mo = nI dr ∧ dr < 65537
  | some (some s) => σ.fi 39 mo = nI s ∧ s < 64
def c40 (F : Nat) : Bool := F == 40
theorem M_comes {s : St} {mo : Nat} (h : MS s mo) {R : Nat → Nat} (hr : AR s mo 3 241 R) (hw : WF R) (B : Option (Option Nat)) {i dr : Nat} (hi : i < 60) (hB : BB s mo B dr) : ∃ s', (if nI (b1 B.isSome) = 0 then some (s, 0) else kd s mo 7 <| bd (sX2_comesBoy s mo (nI i)) fun s57 v58 => if v58 = 0 then some (s57, 0) else some (s57, 1)) = some (s', nI (cmS B (R 0) i dr).1) ∧ Mf c40 s s' ∧ BB s' mo B (cmS B (R 0) i dr).2 := by
  have hR : ∀ i, i < 241 → s.ai (mo + 3) i = nI (R i) := hr
  match B, hB with
  | none, _ => exact ⟨s, rfl, Mf.rf _ s, trivial⟩
  | some none, hB =>
    obtain ⟨b1', b2', b3'⟩ := hB
    have w0 : R 0 ≤ 100 := hw.1
    refine ⟨s.sI 40 mo (nI ((75 * dr + 74) % 65537)), ?_, (Mf.rf _ s).sI rfl, b1', if_pos ⟨rfl, rfl⟩, Nat.mod_lt _ (by decide)⟩
    have e : (some (none : Option Nat)).isSome = true := rfl
    have hm := Nat.mod_lt (75 * dr + 74) (show 0 < 65537 by decide)
    have hR' : ∀ i, i < 241 → ∀ x, (s.sI 40 mo x).ai (mo + 3) i = nI (R i) := fun i hi _ => hr i hi
    have ep : (s.sI 40 mo (nI ((75 * dr + 74) % 65537))).fi 40 mo = nI ((75 * dr + 74) % 65537) := if_pos ⟨rfl, rfl⟩
    rw [if_neg (by rw [e]; decide), M_kd h]
    unfold sX2_comesBoy
    simp (disch := omega) only [lit_nI, M_g39 h, b1', if_pos (show -nI 1 < nI 0 by decide), M_g40 h, b2', pk_mul, nI_add, dz_nI, pk_rem, M_p40 h]
    rw [M_g40 (show MS (s.sI 40 mo _) mo from h), M_r1011 (show MS (s.sI 40 mo _) mo from h), M_l3 (show MS (s.sI 40 mo _) mo from h) (by decide), hR' 0 (by decide), ep]
    simp (disch := omega) only [pk_rem, nI_le']
    rw [cmS_n]
    by_cases hc : R 0 ≤ (75 * dr + 74) % 65537 % 100
    · have hd : decide ((75 * dr + 74) % 65537 % 100 < R 0) = false := decide_eq_false (by omega)
      rw [if_pos hc, bd_s, hd]; rfl
    · have hd : decide ((75 * dr + 74) % 65537 % 100 < R 0) = true := decide_eq_true (by omega)
      rw [if_neg hc, bd_s, hd]; rfl
  | some (some t), hB =>
    obtain ⟨b1', b2'⟩ := hB
    have e : (some (some t)).isSome = true := rfl
    refine ⟨s, ?_, Mf.rf _ s, b1', b2'⟩
    rw [if_neg (by rw [e]; decide), M_kd h]
    unfold sX2_comesBoy
    simp (disch := omega) only [lit_nI, M_g39 h, b1', nI_lt', if_neg (Nat.not_lt.mpr (Nat.zero_le t)), nI_le']
    rw [cmS_s]
    by_cases hc : 6 ≤ i
    · have hd : decide (i < 6) = false := decide_eq_false (by omega)
      rw [if_pos hc, bd_s, hd]; rfl
    · have hd : decide (i < 6) = true := decide_eq_true (by omega)
      rw [if_neg hc, M_hasBit (by omega) (by omega), bp_s, hd]
      cases t.testBit i <;> rfl
/-- how a run ended; when; by how much; who has seen it, ahead; the draw -/
def RO : Type := Int × Int × Int × Nat × Nat × Nat
def mkO (en at' ld : Int) (sn ah dr : Nat) : RO := (en, at', ld, sn, ah, dr)
def RO.en (o : RO) : Int := o.1
def RO.at' (o : RO) : Int := o.2.1
def RO.ld (o : RO) : Int := o.2.2.1
def RO.sn (o : RO) : Nat := o.2.2.2.1
def RO.ah (o : RO) : Nat := o.2.2.2.2.1
def RO.dr (o : RO) : Nat := o.2.2.2.2.2
/-- minutes from t on, d of them are left -/
def runS (V : Nat → Nat) (ey : Nat → Nat) (g : Int) (nd : Nat) (B : Option (Option Nat)) (r0 fr : Nat) : Nat → Nat → Int → Nat → Nat → Nat → Nat → RO
  | 0, _, ld, sn, ah, _, dr => mkO (-2) (-2) ld sn ah dr
  | d + 1, t, ld, sn, _, bo, dr =>
    if ey (sn ||| V t) + 2 * (bo + (cmS B r0 (t - fr) dr).1) < 6 then
      if (nd : Int) ≤ ld + g ∨ (nd : Int) ≤ -(ld + g) then mkO (if ld + g ≤ 0 then 2 else 1) t (ld + g) (sn ||| V t) sn (cmS B r0 (t - fr) dr).2
      else runS V ey g nd B r0 fr d (t + 1) (ld + g) (sn ||| V t) sn (bo + (cmS B r0 (t - fr) dr).1) (cmS B r0 (t - fr) dr).2
    else mkO 0 t ld (sn ||| V t) sn (cmS B r0 (t - fr) dr).2
/-- what a run has left in the model -/
def RF (τ : St) (mo : Nat) (B : Option (Option Nat)) (O : RO) : Prop := τ.fi 34 mo = zI O.en ∧ τ.fi 35 mo = zI O.at' ∧ τ.fi 36 mo = zI O.ld ∧ τ.fi 37 mo = nI O.sn ∧ τ.fi 38 mo = nI O.ah ∧ BB τ mo B O.dr
/-- V: who sees it but for the two -/
def twoS (R : Nat → Nat) (q : Nat) : Nat := 2 ^ R (80 + 5 * q) ||| 2 ^ R (81 + 5 * q)
def freshS (R tr : Nat → Nat) (q p t : Nat) : Nat := watchS R tr p t &&& (twoS R q ^^^ 4294967295)
def c6 (F : Nat) : Bool := [34, 35, 36, 37, 38, 40].contains F
theorem W_loopF {β γ : Type} (L : Nat → β → Int32 → Option γ) (K : Nat) (I : Nat → β → Prop) {Q : γ → Prop} (hK : K < 100000) (b : β) (k0 : Nat) (hk0 : k0 ≤ K) (hb : I k0 b) (hs : ∀ n k b, k0 ≤ k → k < K → I k b → (∃ b', L (n + 1) b (nI k) = L n b' (nI (k + 1)) ∧ I (k + 1) b') ∨ Wp (L (n + 1) b (nI k)) Q) (he : ∀ n b, I K b → Wp (L (n + 1) b (nI K)) Q) : Wp (L FU b (nI k0)) Q := by
  have h : ∀ d k b n, k0 ≤ k → k + d = K → I k b → d < n → Wp (L n b (nI k)) Q := by
    intro d
    induction d with
    | zero =>
      intro k b n h0 hk hb hn
      obtain ⟨n, rfl⟩ : ∃ m, n = m + 1 := ⟨n - 1, by omega⟩
      obtain rfl : k = K := by omega
      exact he n b hb
    | succ d ih =>
      intro k b n h0 hk hb hn
      obtain ⟨n, rfl⟩ : ∃ m, n = m + 1 := ⟨n - 1, by omega⟩
      rcases hs n k b h0 (by omega) hb with ⟨b', e, hi⟩ | q
      · rw [e]
        exact ih (k + 1) b' n (by omega) (by omega) hi (by omega)
      · exact q
  exact h (K - k0) k0 b FU (Nat.le_refl _) (by omega) hb (by show _ < 100000; omega)
theorem nI_m1' : -nI 1 = nI 4294967295 := rfl
theorem nI_m2 : -nI 2 = zI (-2) := rfl
theorem iteI {c : Prop} [Decidable c] (a b : Int) : (if c then zI a else zI b) = zI (if c then a else b) := by split <;> rfl
theorem nI_subz (a b : Nat) : nI a - nI b = zI ((a : Int) - b) := by rw [nI_z, nI_z, zI_sub]
theorem nIz_le {n : Nat} {a : Int} (hn : n < 2147483648) (h3 : -2147483648 ≤ a) (h4 : a < 2147483648) : (nI n ≤ zI a) = ((n : Int) ≤ a) := by rw [nI_z, zI_le (by omega) (by omega) h3 h4]
theorem zIn_le {n : Nat} {a : Int} (hn : n < 2147483648) (h3 : -2147483648 ≤ a) (h4 : a < 2147483648) : (zI a ≤ nI n) = (a ≤ (n : Int)) := by rw [nI_z, zI_le h3 h4 (by omega) (by omega)]
theorem BB_sI {s : St} {mo F a dr : Nat} {v : Int32} {B : Option (Option Nat)} (h1 : F ≠ 39) (h2 : F ≠ 40) (h : BB s mo B dr) : BB (s.sI F a v) mo B dr := by
  have e1 : (s.sI F a v).fi 39 mo = s.fi 39 mo := if_neg (fun q => h1 q.1.symm)
  have e2 : (s.sI F a v).fi 40 mo = s.fi 40 mo := if_neg (fun q => h2 q.1.symm)
  match B, h with
  | none, _ => trivial
  | some none, hB => exact ⟨e1.trans hB.1, e2.trans hB.2.1, hB.2.2⟩
  | some (some s), hB => exact ⟨e1.trans hB.1, hB.2⟩
theorem RF_mk {s : St} {mo t sn ah dr : Nat} {en ld : Int} {v : Int32} {B : Option (Option Nat)} (hv : v = zI en) (k36 : s.fi 36 mo = zI ld) (k37 : s.fi 37 mo = nI sn) (k38 : s.fi 38 mo = nI ah) (hB : BB s mo B dr) : RF ((s.sI 34 mo v).sI 35 mo (nI t)) mo B (mkO en t ld sn ah dr) :=
  ⟨by rw [fi_sI, up2_ap, if_neg (by omega), fi_sI, up2_ap, if_pos ⟨rfl, rfl⟩]; exact hv, by rw [fi_sI, up2_ap, if_pos ⟨rfl, rfl⟩]; exact nI_z t, by rw [fi_sI, up2_ap, if_neg (by omega), fi_sI, up2_ap, if_neg (by omega)]; exact k36, by rw [fi_sI, up2_ap, if_neg (by omega), fi_sI, up2_ap, if_neg (by omega)]; exact k37, by rw [fi_sI, up2_ap, if_neg (by omega), fi_sI, up2_ap, if_neg (by omega)]; exact k38, BB_sI (by decide) (by decide) (BB_sI (by decide) (by decide) hB)⟩
theorem M_run {σ : St} {mo : Nat} (h : MS σ mo) {R tr wt ey : Nat → Nat} (hr : AR σ mo 3 241 R) (ht : AR σ mo 8 8 tr) (hT : TR σ mo R wt ey) (hw : WF R) (hb : TB tr) (hwt : ∀ m, m < R 3 → wt m ≤ 9) (hey : ∀ i, ey i ≤ 2) {q p fr dr : Nat} (hq : q < R 5) (hp : p < 6) (hf : fr < 60) (B : Option (Option Nat)) (hB : BB σ mo B dr) : ∃ τ, sX2_run σ mo (nI q) (nI p) (nI fr) (nI (b1 B.isSome)) = some τ ∧ Mf c6 σ τ ∧ RF τ mo B (runS (freshS R tr q p) (eyesS R ey) (wt (R (80 + 5 * q)) - wt (R (81 + 5 * q))) (R (84 + 5 * q)) B (R 0) fr (60 - fr) fr 0 0 0 0 dr) := by
  have hR : ∀ i, i < 241 → σ.ai (mo + 3) i = nI (R i) := hr
  have hw0 := hw
  obtain ⟨w0, w1, w2, w3, w4, w5, w6, w7, w8, w9, w10, w11, w12, w13⟩ := hw
  obtain ⟨u1, u2, u3, u4, u5, u6, u7⟩ := w11 q hq
  have hs5 : Mf c6 σ ((((σ.sI 34 mo (zI (-2))).sI 35 mo (zI (-2))).sI 36 mo (nI 0)).sI 37 mo (nI 0)) := ((((Mf.rf c6 σ).sI rfl).sI rfl).sI rfl).sI rfl
  unfold sX2_run
  simp (disch := omega) only [lit_nI, M_r1011 h, M_l3 h, hR, pk_mul, nI_add, show 80 + 5 * q + 1 = 81 + 5 * q by omega, nI_shl1, nI_or, nI_m2]
  rw [M_p34 h, M_p35 (show MS (σ.sI 34 mo _) mo from h), M_p36 (show MS ((σ.sI 34 mo _).sI 35 mo _) mo from h), M_p37 (show MS (((σ.sI 34 mo _).sI 35 mo _).sI 36 mo _) mo from h)]
  have hB0 : BB ((((σ.sI 34 mo (zI (-2))).sI 35 mo (zI (-2))).sI 36 mo (nI 0)).sI 37 mo (nI 0)) mo B dr := by
    match B, hB with
    | none, _ => trivial
    | some none, hB => simpa [BB, fi_sI, up2_ap] using hB
    | some (some s), hB => simpa [BB, fi_sI, up2_ap] using hB
  generalize hO : runS (freshS R tr q p) (eyesS R ey) (wt (R (80 + 5 * q)) - wt (R (81 + 5 * q))) (R (84 + 5 * q)) B (R 0) fr (60 - fr) fr 0 0 0 0 dr = O
  have hl := W_loopF (fun n (b : St × Nat) k => sX2_run_L59 mo (nI p) (nI fr) (nI (b1 B.isSome)) (nI (80 + 5 * q)) (nI (2 ^ R (80 + 5 * q) ||| 2 ^ R (81 + 5 * q))) n b.1 (nI b.2) k) 60 (fun k b => ∃ ld sn ah dr, Mf c6 σ b.1 ∧ b.1.fi 34 mo = zI (-2) ∧ b.1.fi 35 mo = zI (-2) ∧ b.1.fi 36 mo = zI ld ∧ b.1.fi 37 mo = nI sn ∧ (k = fr ∨ b.1.fi 38 mo = nI ah) ∧ BB b.1 mo B dr ∧ -(9 * k : Int) ≤ ld ∧ ld ≤ 9 * k ∧ sn < 64 ∧ b.2 ≤ k ∧ runS (freshS R tr q p) (eyesS R ey) (wt (R (80 + 5 * q)) - wt (R (81 + 5 * q))) (R (84 + 5 * q)) B (R 0) fr (60 - k) k ld sn ah b.2 dr = O) (Q := fun v => ∃ τ, (v = .inl τ ∨ v = .inr τ) ∧ Mf c6 σ τ ∧ RF τ mo B O) (by decide) (((((σ.sI 34 mo (zI (-2))).sI 35 mo (zI (-2))).sI 36 mo (nI 0)).sI 37 mo (nI 0)), 0) fr (by omega) ⟨0, 0, 0, dr, hs5, by simp [fi_sI, up2_ap], by simp [fi_sI, up2_ap], by simp [fi_sI, up2_ap]; rfl, by simp [fi_sI, up2_ap], Or.inl rfl, hB0, by omega, by omega, by omega, by omega, hO⟩ (fun n k b h0 hk hi => by
      obtain ⟨ld, sn, ah, dr, i1, i2, i3, i4, i5, i6, i7, i8, i9, i10, i11, i12⟩ := hi
      obtain ⟨s, bo⟩ := b
      dsimp only at i1 i2 i3 i4 i5 i6 i7 i11 i12 ⊢
      have hs : MS s mo := i1.ms h
      generalize h14 : s.sI 38 mo (nI sn) = s14
      have j14 : Mf c6 σ s14 := by rw [← h14]; exact i1.sI rfl
      have g14 : s14.fi 37 mo = nI sn := by rw [← h14, fi_sI, up2_ap, if_neg (by omega)]; exact i5
      obtain ⟨hwt1, hwt2⟩ := M_watchersOf (j14.ms h) (j14.ar hr) (j14.ar ht) hw0 hb hp hk
      generalize h19 : s14.sI 37 mo (nI (sn ||| watchS R tr p k &&& ((2 ^ R (80 + 5 * q) ||| 2 ^ R (81 + 5 * q)) ^^^ 4294967295))) = s19
      have j19 : Mf c6 σ s19 := by rw [← h19]; exact j14.sI rfl
      have B19 : BB s19 mo B dr := by
        rw [← h19, ← h14]
        match B, i7 with
        | none, _ => trivial
        | some none, hB => simpa [BB, fi_sI, up2_ap] using hB
        | some (some s), hB => simpa [BB, fi_sI, up2_ap] using hB
      obtain ⟨s20, e20, m20, B20⟩ := M_comes (j19.ms h) (j19.ar hr) hw0 B (i := k - fr) (by omega) B19
      have j20 : Mf c6 σ s20 := j19.tr (m20.mono (fun F hF => by
        by_cases q : F = 40
        · rw [q] at hF; cases hF
        · simpa [c40] using q))
      have f20 : ∀ F, F ≠ 40 → s20.fi F mo = s19.fi F mo := fun F hF => m20.2.2.2.2.2.2.2 F mo (by simpa [c40] using hF)
      have T20 := j20.tt hT
      have hfr : freshS R tr q p k < 64 := Nat.lt_of_le_of_lt Nat.and_le_left hwt2
      have hsn : sn ||| freshS R tr q p k < 64 := Nat.or_lt_two_pow (n := 6) i10 hfr
      obtain ⟨hey1, hey2⟩ := M_eyesOf (j20.ms h) (j20.ar hr) T20.2 hey w4 (s := sn ||| freshS R tr q p k) (by omega)
      have hc1 := cmS_le B (R 0) (k - fr) dr
      have R20 : ∀ i, i < 241 → s20.ai (mo + 3) i = nI (R i) := j20.ar hr
      have H20 := j20.ms h
      have k37 : s20.fi 37 mo = nI (sn ||| freshS R tr q p k) := by rw [f20 37 (by decide), ← h19, fi_sI, up2_ap, if_pos ⟨rfl, rfl⟩]; rfl
      have k38 : s20.fi 38 mo = nI sn := by rw [f20 38 (by decide), ← h19, fi_sI, up2_ap, if_neg (by omega), ← h14, fi_sI, up2_ap, if_pos ⟨rfl, rfl⟩]
      have k34 : s20.fi 34 mo = zI (-2) := by rw [f20 34 (by decide), ← h19, fi_sI, up2_ap, if_neg (by omega), ← h14, fi_sI, up2_ap, if_neg (by omega)]; exact i2
      have k35 : s20.fi 35 mo = zI (-2) := by rw [f20 35 (by decide), ← h19, fi_sI, up2_ap, if_neg (by omega), ← h14, fi_sI, up2_ap, if_neg (by omega)]; exact i3
      have k36 : s20.fi 36 mo = zI ld := by rw [f20 36 (by decide), ← h19, fi_sI, up2_ap, if_neg (by omega), ← h14, fi_sI, up2_ap, if_neg (by omega)]; exact i4
      have hfe : freshS R tr q p k = watchS R tr p k &&& ((2 ^ R (80 + 5 * q) ||| 2 ^ R (81 + 5 * q)) ^^^ 4294967295) := rfl
      simp (disch := omega) only [sX2_run_L59, lit_nI, nI_lt', if_neg (show ¬ 59 < k by omega), M_g37 hs, i5, M_p38 hs, h14, M_g37 (j14.ms h), g14, M_kd (j14.ms h), hwt1, bp_s, M_p37 (j14.ms h), nI_m1', nI_xor, nI_and, nI_or, h19, pk_sub]
      simp only [lit_nI] at e20
      erw [e20]
      rw [b2_s, M_g37 H20, k37, M_kd H20, hey1, bp_s]
      have hwo := hwt (R (80 + 5 * q)) u1
      have hwp := hwt (R (81 + 5 * q)) u2
      rw [show 60 - k = (60 - (k + 1)) + 1 by omega, runS] at i12
      simp (disch := omega) only [nI_add, pk_mul, nI_lt']
      by_cases hA : eyesS R ey (sn ||| freshS R tr q p k) + 2 * (bo + (cmS B (R 0) (k - fr) dr).1) < 6
      · rw [if_pos hA] at i12 ⊢
        simp (disch := omega) only [M_g36 H20, k36, M_r1017 H20, M_r1011 H20, M_l3 H20, R20, M_l9 H20, T20.1, nI_subz, zI_add, M_p36 H20, show 80 + 5 * q + 1 = 81 + 5 * q by omega, show 80 + 5 * q + 4 = 84 + 5 * q by omega]
        generalize hg : ((wt (R (80 + 5 * q)) : Int) - (wt (R (81 + 5 * q)) : Int)) = g at i12 ⊢
        generalize h35 : s20.sI 36 mo (zI (ld + g)) = s35
        have j35 : Mf c6 σ s35 := by rw [← h35]; exact j20.sI rfl
        have f35 : ∀ F, F ≠ 36 → s35.fi F mo = s20.fi F mo := fun F hF => by rw [← h35, fi_sI, up2_ap, if_neg (fun q => hF q.1)]
        have k36' : s35.fi 36 mo = zI (ld + g) := by rw [← h35, fi_sI, up2_ap, if_pos ⟨rfl, rfl⟩]
        have B35 : BB s35 mo B (cmS B (R 0) (k - fr) dr).2 := by
          rw [← h35]
          match B, B20 with
          | none, _ => trivial
          | some none, hB => simpa [BB, fi_sI, up2_ap] using hB
          | some (some s), hB => simpa [BB, fi_sI, up2_ap] using hB
        have H35 := j35.ms h
        have R35 : ∀ i, i < 241 → s35.ai (mo + 3) i = nI (R i) := j35.ar hr
        simp (disch := omega) only [M_g36 H35, k36', M_r1011 H35, M_l3 H35, R35, nIz_le, zI_neg, zIn_le]
        have k37' : s35.fi 37 mo = nI (sn ||| freshS R tr q p k) := (f35 37 (by decide)).trans k37
        have k38' : s35.fi 38 mo = nI sn := (f35 38 (by decide)).trans k38
        have e2 : nI 2 = zI 2 := nI_z 2
        have e1 : nI 1 = zI 1 := nI_z 1
        have M35 : ∀ x, MS (s35.sI 34 mo x) mo := fun x => H35
        by_cases hC : (R (84 + 5 * q) : Int) ≤ ld + g
        · rw [if_pos (Or.inl hC)] at i12
          rw [if_pos hC]
          by_cases hD : ld + g ≤ 0
          · rw [if_pos hD] at i12
            rw [if_pos (show ld + g ≤ ((0 : Nat) : Int) from hD), bp_s, M_p34 H35, M_p35 (M35 _)]
            refine Or.inr (W_ret ⟨_, Or.inl rfl, (j35.sI rfl).sI rfl, ?_⟩)
            rw [← i12]
            exact RF_mk e2 k36' k37' k38' B35
          · rw [if_neg hD] at i12
            rw [if_neg (show ¬ ld + g ≤ ((0 : Nat) : Int) from hD), bp_s, M_p34 H35, M_p35 (M35 _)]
            refine Or.inr (W_ret ⟨_, Or.inl rfl, (j35.sI rfl).sI rfl, ?_⟩)
            rw [← i12]
            exact RF_mk e1 k36' k37' k38' B35
        · rw [if_neg hC]
          by_cases hE : (R (84 + 5 * q) : Int) ≤ -(ld + g)
          · rw [if_pos (Or.inr hE)] at i12
            rw [if_pos hE]
            by_cases hD : ld + g ≤ 0
            · rw [if_pos hD] at i12
              rw [if_pos (show ld + g ≤ ((0 : Nat) : Int) from hD), bp_s, M_p34 H35, M_p35 (M35 _)]
              refine Or.inr (W_ret ⟨_, Or.inl rfl, (j35.sI rfl).sI rfl, ?_⟩)
              rw [← i12]
              exact RF_mk e2 k36' k37' k38' B35
            · exact absurd hE (by omega)
          · rw [if_neg (fun q => q.elim hC hE)] at i12
            rw [if_neg hE]
            exact Or.inl ⟨(s35, bo + (cmS B (R 0) (k - fr) dr).1), rfl, ld + g, sn ||| freshS R tr q p k, sn, (cmS B (R 0) (k - fr) dr).2, j35, (f35 34 (by decide)).trans k34, (f35 35 (by decide)).trans k35, k36', k37', Or.inr k38', B35, by omega, by omega, hsn, by show bo + _ ≤ k + 1; omega, i12⟩
      · rw [if_neg hA] at i12 ⊢
        simp (disch := omega) only [M_p34 H20]
        rw [M_p35 (show MS (s20.sI 34 mo _) mo from H20)]
        refine Or.inr (W_ret ⟨_, Or.inl rfl, (j20.sI rfl).sI rfl, ?_⟩)
        rw [← i12]
        exact RF_mk (nI_z 0) k36 k37 k38 B20) (fun n b hi => by
      obtain ⟨ld, sn, ah, dr, i1, i2, i3, i4, i5, i6, i7, i8, i9, i10, i11, i12⟩ := hi
      simp (disch := omega) only [sX2_run_L59, lit_nI, nI_lt', if_pos (show 59 < 60 by omega)]
      refine W_ret ⟨b.1, Or.inr rfl, i1, ?_⟩
      rw [← i12]
      refine ⟨i2, i3, i4, i5, ?_, i7⟩
      rcases i6 with q | q
      · omega
      · exact q)
  obtain ⟨v, e, τ, hv, q1, q2⟩ := hl
  refine ⟨τ, ?_, q1, q2⟩
  have e' : sX2_run_L59 mo (nI p) (nI fr) (nI (b1 B.isSome)) (nI (80 + 5 * q)) (nI (2 ^ R (80 + 5 * q) ||| 2 ^ R (81 + 5 * q))) FU ((((σ.sI 34 mo (zI (-2))).sI 35 mo (zI (-2))).sI 36 mo (nI 0)).sI 37 mo (nI 0)) (nI 0) (nI fr) = some v := e
  rw [e']
  rcases hv with rfl | rfl <;> rfl
