/-! THE COMPONENT: a brawl -/
set_option maxRecDepth 100000
theorem Mf.xt {P : Nat → Bool} {σ τ : St} {w : Nat → Nat → Nat} {R : Nat → Nat} (h : Mf P σ τ) (hP : ∀ F, 17 ≤ F → P F = false) (ht : XT σ w R) : XT τ w R := by
  obtain ⟨h1, h2, h3, h4, h5, h6, h7, h8⟩ := h
  have hf : ∀ F, 17 ≤ F → ∀ a, τ.fi F a = σ.fi F a := fun F hF a => h8 F a (hP F hF)
  unfold XT XP XR LQ at ht ⊢
  simp only [h2, h3, h4, h5, h7, hf 18 (by decide), hf 49 (by decide), hf 50 (by decide), hf 51 (by decide), hf 52 (by decide), hf 53 (by decide), hf 63 (by decide), hf 64 (by decide), hf 65 (by decide), hf 66 (by decide), hf 67 (by decide), hf 68 (by decide), hf 69 (by decide), hf 71 (by decide), hf 72 (by decide), hf 73 (by decide), hf 74 (by decide), hf 75 (by decide), hf 76 (by decide)]
  exact ht
theorem Mf.lo {P : Nat → Bool} {σ τ : St} (h : Mf P σ τ) : τ.lo = σ.lo := by simp only [St.lo, h.1]
theorem Mf.xo {P : Nat → Bool} {σ τ : St} {x : Nat} (h : Mf P σ τ) (hx : XO σ x) : XO τ x := by
  obtain ⟨h1, h2, h3, h4, -⟩ := id h
  unfold XO
  rw [h2, h3, h4, h.lo]
  exact hx
theorem Mf.sh {P : Nat → Bool} {σ τ : St} {s t : Nat} (h : Mf P σ τ) (hx : SH σ s t) : SH τ s t := by
  obtain ⟨h1, h2, h3, h4, -⟩ := id h
  unfold SH
  rw [h2, h3, h4, h.lo]
  exact hx
theorem Mf.xd {P : Nat → Bool} {σ τ : St} {x : Nat} {w : Nat → Nat → Nat} (h : Mf P σ τ) (hx : XD σ x w) : XD τ x w := by
  obtain ⟨k1, k2, k3, k4, k5, k6, k7⟩ := hx
  exact ⟨h.xo k1, by rw [h.2.2.2.1]; exact k2, by rw [h.2.2.2.1]; exact k3, by rw [h.2.2.2.1]; exact k4, h.sh k5, h.sh k6, k7⟩
theorem Mf.sc {P : Nat → Bool} {σ τ : St} {s : Nat} {S : Nat → Nat} (h : Mf P σ τ) (hP : ∀ F, 17 ≤ F → P F = false) (hx : SC σ s S) : SC τ s S := by
  obtain ⟨k1, k2, k3⟩ := hx
  exact ⟨fun p hp => by rw [h.2.2.2.2.1]; exact k1 p hp, by rw [h.2.2.2.2.2.2.2 77 s (hP 77 (by decide))]; exact k2, by rw [h.2.2.2.2.2.2.2 78 s (hP 78 (by decide))]; exact k3⟩
def cX (F : Nat) : Bool := decide (6 ≤ F) && decide (F ≤ 11)
theorem cX_hi : ∀ F, 17 ≤ F → cX F = false := fun F h => by simp [cX]; omega
theorem bit_M (i : Nat) : (4294967295 : Nat).testBit i = decide (i < 32) := Nat.testBit_two_pow_sub_one 32 i
theorem bit_hi {v i : Nat} (h : v < 2 ^ 32) (hi : ¬ i < 32) : v.testBit i = false := Nat.testBit_lt_two_pow (Nat.lt_of_lt_of_le h (Nat.pow_le_pow_right (by decide) (by omega)))
theorem fr_or {V A B s : Nat} (hV : V < 2 ^ 32) : s ||| (((V &&& (A ^^^ 4294967295)) &&& (B ^^^ 4294967295)) &&& (s ^^^ 4294967295)) = s ||| (V &&& ((A ||| B) ^^^ 4294967295)) := by
  apply Nat.eq_of_testBit_eq
  intro i
  simp only [Nat.testBit_or, Nat.testBit_and, Nat.testBit_xor, bit_M]
  by_cases hi : i < 32
  · simp only [hi, decide_true]
    cases V.testBit i <;> cases A.testBit i <;> cases B.testBit i <;> cases s.testBit i <;> rfl
  · simp [bit_hi hV hi]
theorem fr_dif {V A B s : Nat} (hV : V < 2 ^ 32) (hs : s < 2 ^ 32) : (s ||| (V &&& ((A ||| B) ^^^ 4294967295))) &&& (s ^^^ 4294967295) = ((V &&& (A ^^^ 4294967295)) &&& (B ^^^ 4294967295)) &&& (s ^^^ 4294967295) := by
  apply Nat.eq_of_testBit_eq
  intro i
  simp only [Nat.testBit_or, Nat.testBit_and, Nat.testBit_xor, bit_M]
  by_cases hi : i < 32
  · simp only [hi, decide_true]
    cases V.testBit i <;> cases A.testBit i <;> cases B.testBit i <;> cases s.testBit i <;> rfl
  · simp [bit_hi hV hi, bit_hi hs hi]
/-- the least bit of s within j .. j + d - 1, or -2 -/
def lowF (s : Nat) : Nat → Nat → Int
  | _, 0 => -2
  | j, d + 1 => if s.testBit j then (j : Int) else lowF s (j + 1) d
def thirdS (R : Nat → Nat) (O : RO) : Int := if O.en = 0 then lowF (O.sn &&& (O.ah ^^^ 4294967295)) 0 (R 3) else -2
/-- what a brawl has left at the desk -/
def XF (τ : St) (x : Nat) (R : Nat → Nat) (B : Bool) (O : RO) : Prop := τ.fi 7 x = zI O.at' ∧ τ.fi 8 x = zI O.ld ∧ τ.fi 9 x = nI O.sn ∧ τ.fi 10 x = zI (thirdS R O) ∧ (B = true → τ.fi 11 x = nI O.dr ∧ O.dr < 65537)
def bB (B : Bool) : Option (Option Nat) := if B then some none else none
theorem bB_some (B : Bool) : (bB B).isSome = B := by cases B <;> rfl
theorem lN_m1 (n : Nat) : (OfNat.ofNat n : Int64) = lN n := rfl
theorem X_drawOf {s : St} {dr : Nat} (h : dr < 65537) : sX1_drawOf s (nI dr) = some (nI ((75 * dr + 74) % 65537)) := by
  unfold sX1_drawOf
  have e0 : ¬ ((65537 : Int64) = 0) := by decide
  unfold dzL
  rw [if_neg e0, nI_l (by omega)]
  simp only [lN_m1]
  rw [lN_mul, lN_add, pk_lRem (by omega) (by omega) (by omega), lN_i]
def c611 (F : Nat) : Bool := F == 6 || F == 11
theorem X_comes {s : St} {x : Nat} {w : Nat → Nat → Nat} {R : Nat → Nat} (hd : XD s x w) (h : XT s w R) (B : Bool) {dr bo : Nat} (i : Nat) (hw0 : R 0 ≤ 100) (h6 : s.fi 6 x = nI bo) (hdr : B = true → s.fi 11 x = nI dr ∧ dr < 65537) : ∃ s', (if nI (b1 B) = 0 then some s else gI s 11 (some x) fun v60 => bp (sX1_drawOf s v60) fun v61 => pI s 11 (some x) v61 fun s63 => gI s63 11 (some x) fun v64 => dzI (100 : Int32) <| gR s63 1001 (some x) fun v65 => gI s63 49 v65 fun v66 => if v66 ≤ (v64 - v64 / 100 * 100) then some s63 else gI s63 6 (some x) fun v67 => pI s63 6 (some x) (v67 + 1) fun s68 => some s68) = some s' ∧ Mf c611 s s' ∧ s'.fi 6 x = nI (bo + (cmS (bB B) (R 0) i dr).1) ∧ (B = true → s'.fi 11 x = nI (cmS (bB B) (R 0) i dr).2 ∧ (cmS (bB B) (R 0) i dr).2 < 65537) := by
  match B, hdr with
  | false, _ => exact ⟨s, rfl, Mf.rf _ s, h6, fun q => by cases q⟩
  | true, hdr =>
    obtain ⟨k1, k2⟩ := hdr rfl
    have hm := Nat.mod_lt (75 * dr + 74) (show 0 < 65537 by decide)
    have hx := hd.1.1
    have hlo := hd.1.2.1
    generalize hs1 : s.sI 11 x (nI ((75 * dr + 74) % 65537)) = s1
    have j1 : Mf c611 s s1 := by rw [← hs1]; exact (Mf.rf _ s).sI rfl
    have j6 : s1.fi 6 x = nI bo := by rw [← hs1]; exact h6
    have j11 : s1.fi 11 x = nI ((75 * dr + 74) % 65537) := by rw [← hs1]; exact if_pos ⟨rfl, rfl⟩
    have hP : ∀ F, 17 ≤ F → c611 F = false := fun F hF => by simp [c611]; omega
    have hd1 := j1.xd hd
    have ht1 := j1.xt hP h
    have hx1 := hd1.1.1
    have e : (cmS (bB true) (R 0) i dr) = (b1 (decide ((75 * dr + 74) % 65537 % 100 < R 0)), (75 * dr + 74) % 65537) := rfl
    rw [e, if_neg (by decide), g11_5 hx, k1, X_drawOf k2, bp_s, p11_5 hx hlo, hs1, g11_5 hx1, j11, hd1.r1001, ht1.g49]
    simp (disch := omega) only [lit_nI, dz_nI, pk_rem, nI_le']
    by_cases hc : R 0 ≤ (75 * dr + 74) % 65537 % 100
    · have hdc : decide ((75 * dr + 74) % 65537 % 100 < R 0) = false := decide_eq_false (by omega)
      rw [if_pos hc, hdc]
      exact ⟨s1, rfl, j1, j6, fun _ => ⟨j11, hm⟩⟩
    · have hdc : decide ((75 * dr + 74) % 65537 % 100 < R 0) = true := decide_eq_true (by omega)
      rw [if_neg hc, hdc, g6_5 hx1, j6, p6_5 hx1 (by have := hd1.1.2.1; exact this)]
      exact ⟨_, rfl, j1.sI rfl, by rw [fi_sI, up2_ap, if_pos ⟨rfl, rfl⟩]; exact nI_add bo 1, fun _ => ⟨j11, hm⟩⟩
def c10 (F : Nat) : Bool := F == 10
theorem X_third {σ : St} {x n v : Nat} (hx : σ.ob x = 5) (hlo : σ.lo ≤ x) (hn : n ≤ 6) (hv : v < 2147483648) (h10 : σ.fi 10 x = zI (-2)) : ∃ τ, sX1_brawls_L189 x (nI v) FU σ (nI n - 1) = some τ ∧ Mf c10 σ τ ∧ τ.fi 10 x = zI (lowF v 0 n) := by
  have h : ∀ k s m, k ≤ n → k < m → Mf c10 σ s → s.fi 10 x = zI (lowF v k (n - k)) → ∃ τ, sX1_brawls_L189 x (nI v) m s (nI k - 1) = some τ ∧ Mf c10 σ τ ∧ τ.fi 10 x = zI (lowF v 0 n) := by
    intro k
    induction k with
    | zero =>
      intro s m hk hm hq h1
      obtain ⟨m, rfl⟩ : ∃ j, m = j + 1 := ⟨m - 1, by omega⟩
      refine ⟨s, ?_, hq, h1⟩
      unfold sX1_brawls_L189
      rw [if_pos (by decide)]
    | succ k ih =>
      intro s m hk hm hq h1
      obtain ⟨m, rfl⟩ : ∃ j, m = j + 1 := ⟨m - 1, by omega⟩
      have hxs : s.ob x = 5 := by rw [hq.2.1]; exact hx
      have hls : s.lo ≤ x := by rw [hq.lo]; exact hlo
      have e : nI (k + 1) - 1 = nI k := nI_pred k
      have e2 : nI k + -1 = nI k - 1 := (Int32.sub_eq_add_neg ..).symm
      have e3 : n - k = (n - (k + 1)) + 1 := by omega
      unfold sX1_brawls_L189
      rw [e, if_neg (nI_pos (by omega)), X_has hv (by omega), bp_s, e2]
      cases hb : v.testBit k
      · rw [if_pos (by decide), bp_s]
        refine ih s m (by omega) (by omega) hq ?_
        rw [e3, lowF, hb]
        exact h1
      · rw [if_neg (by decide), p10_5 hxs hls, bp_s]
        refine ih _ m (by omega) (by omega) (hq.sI rfl) ?_
        rw [e3, lowF, hb, if_pos rfl, fi_sI, up2_ap, if_pos ⟨rfl, rfl⟩]
        exact nI_z k
  exact h n σ FU (Nat.le_refl n) (by show _ < 100000; omega) (Mf.rf _ σ) (by rw [Nat.sub_self]; exact h10)
theorem abI_z {z : Int} (h1 : -1000000 ≤ z) (h2 : z ≤ 1000000) : abI (zI z) = zI (if 0 ≤ z then z else -z) := by
  unfold abI
  have e : ((0 : Int32) ≤ zI z) = (0 ≤ z) := by
    rw [show (0 : Int32) = zI 0 from rfl, zI_le (by omega) (by omega) (by omega) (by omega)]
  rw [iteP e]
  by_cases h : 0 ≤ z
  · rw [if_pos h, if_pos h]
  · rw [if_neg h, if_neg h, show (0 : Int32) = zI 0 from rfl, zI_sub, Int.zero_sub]
theorem X_brawls {σ : St} {x : Nat} {w : Nat → Nat → Nat} {R S : Nat → Nat} {s : Nat} (hd : XD σ x w) (h : XT σ w R) (hw : WF R) (hs : SH σ s (w 0 0)) (hc : SC σ s S) (hb : TB S) {pl : Option Nat} {oth : Nat} (hpl : σ.fi 4 x = plI pl) (hpm : ∀ q, pl = some q → q < 6) (ho : σ.fi 5 x = nI oth) (ho6 : oth < 2147483648) (B : Bool) (hB : σ.fi 12 x = nI (b1 B)) {q p fr dr : Nat} (hdr : B = true → σ.fi 11 x = nI dr ∧ dr < 65537) (hq : q < R 5) (hp : p < 6) (hf : fr < 60) {O : RO} (hO : runS (freshS R S q p) (eyesS R (eyP R pl)) ((witS R oth (R (80 + 5 * q)) : Nat) - (witS R oth (R (81 + 5 * q)) : Nat)) (R (84 + 5 * q)) (bB B) (R 0) fr (60 - fr) fr 0 0 0 0 dr = O) : ∃ τ, sX1_brawls σ x (some s) (nI q) (nI p) (nI fr) = some (τ, zI O.en) ∧ Mf cX σ τ ∧ XF τ x R B O := by
  have hw0 := hw
  have hx := hd.1.1
  have hlo := hd.1.2.1
  obtain ⟨w0, w1, w2, w3, w4, w5, w6, w7, w8, w9, w10, w11, w12, w13⟩ := hw
  obtain ⟨u1, u2, u3, u4, u5, u6, u7⟩ := w11 q hq
  have hwa := witS_le hw0 oth u1
  have hwb := witS_le hw0 oth u2
  generalize hg : ((witS R oth (R (80 + 5 * q)) : Nat) : Int) - (witS R oth (R (81 + 5 * q)) : Nat) = g at hO
  generalize h18 : (((σ.sI 9 x 0).sI 8 x 0).sI 10 x (-2)).sI 6 x 0 = s18
  have j18 : Mf cX σ s18 := by rw [← h18]; exact ((((Mf.rf cX σ).sI rfl).sI rfl).sI rfl).sI rfl
  have f18 : s18.fi 8 x = zI 0 ∧ s18.fi 9 x = nI 0 ∧ s18.fi 10 x = zI (-2) ∧ s18.fi 6 x = nI 0 ∧ s18.fi 11 x = σ.fi 11 x := by rw [← h18]; simp [fi_sI, up2_ap]; exact ⟨rfl, rfl, rfl, rfl⟩
  have hl := Wp_loop (fun n (b : St) k => sX1_brawls_L56 x (some s) (nI p) (some (w 2 q)) (zI g) n b (nI k)) 60 (fun k b => ∃ ld sn ah bo dr, Mf cX σ b ∧ b.fi 8 x = zI ld ∧ b.fi 9 x = nI sn ∧ b.fi 10 x = zI (-2) ∧ b.fi 6 x = nI bo ∧ (B = true → b.fi 11 x = nI dr ∧ dr < 65537) ∧ -(9 * k : Int) ≤ ld ∧ ld ≤ 9 * k ∧ sn < 64 ∧ bo ≤ k ∧ fr ≤ k ∧ runS (freshS R S q p) (eyesS R (eyP R pl)) g (R (84 + 5 * q)) (bB B) (R 0) fr (60 - k) k ld sn ah bo dr = O) (Q := fun v => (∃ τ, v = .inl (τ, zI O.en) ∧ Mf cX σ τ ∧ XF τ x R B O) ∨ (∃ τ, v = .inr τ ∧ Mf cX σ τ ∧ O.en = -2 ∧ O.at' = -2 ∧ τ.fi 8 x = zI O.ld ∧ τ.fi 9 x = nI O.sn ∧ τ.fi 10 x = zI (thirdS R O) ∧ (B = true → τ.fi 11 x = nI O.dr ∧ O.dr < 65537))) (by decide) (fun n k b hk hi hn => by
      obtain ⟨ld, sn, ah, bo, dr, i1, i2, i3, i4, i5, i6, i7, i8, i9, i10, i11, i12⟩ := hi
      by_cases hkk : k = 60
      · subst hkk
        refine ⟨.inr b, by unfold sX1_brawls_L56; rw [if_pos (by decide)], Or.inr ⟨b, rfl, i1, ?_⟩⟩
        rw [Nat.sub_self] at i12
        rw [← i12]
        exact ⟨rfl, rfl, i2, i3, i4, i6⟩
      · have hk' : k < 60 := by omega
        have bd := i1.xd hd
        have bt := i1.xt cX_hi h
        have bs := i1.sh hs
        have bc := i1.sc cX_hi hc
        have bx := bd.1.1
        have blo := bd.1.2.1
        obtain ⟨hwt1, hwt2⟩ := X_watchers bt hw0 bs bc hb hp hk'
        have hV : watchS R S p k < 2 ^ 32 := by omega
        have hfe : freshS R S q p k = watchS R S p k &&& ((2 ^ R (80 + 5 * q) ||| 2 ^ R (81 + 5 * q)) ^^^ 4294967295) := rfl
        have hfr : freshS R S q p k < 64 := Nat.lt_of_le_of_lt Nat.and_le_left hwt2
        have hsn : sn ||| freshS R S q p k < 64 := Nat.or_lt_two_pow (n := 6) i9 hfr
        generalize hFX : ((watchS R S p k &&& (2 ^ R (80 + 5 * q) ^^^ 4294967295)) &&& (2 ^ R (81 + 5 * q) ^^^ 4294967295)) &&& (sn ^^^ 4294967295) = FX
        have hFo : sn ||| FX = sn ||| freshS R S q p k := by rw [← hFX, hfe]; exact fr_or hV
        have hFd : (sn ||| freshS R S q p k) &&& (sn ^^^ 4294967295) = FX := by rw [← hFX, hfe]; exact fr_dif hV (by omega)
        have hF6 : FX < 64 := by rw [← hFd]; exact Nat.lt_of_le_of_lt Nat.and_le_left hsn
        generalize h31 : b.sI 9 x (nI (sn ||| freshS R S q p k)) = s31
        have j31 : Mf cX σ s31 := by rw [← h31]; exact i1.sI rfl
        have e31 : ∀ F, F ≠ 9 → s31.fi F x = b.fi F x := fun F hF => by rw [← h31]; exact if_neg (fun q => hF q.1)
        obtain ⟨s33, e33, m33, k6, k11⟩ := X_comes (j31.xd hd) (j31.xt cX_hi h) B (dr := dr) (bo := bo) (k - fr) w0 ((e31 6 (by decide)).trans i5) (fun hBt => ⟨(e31 11 (by decide)).trans (i6 hBt).1, (i6 hBt).2⟩)
        have j33 : Mf cX σ s33 := j31.tr (m33.mono (fun F hF => by simp [cX] at hF; simp [c611]; omega))
        have e33' : ∀ F, F ≠ 6 → F ≠ 11 → s33.fi F x = s31.fi F x := fun F h1 h2 => m33.2.2.2.2.2.2.2 F x (by simp [c611, h1, h2])
        have g12 : s31.fi 12 x = nI (b1 B) := by rw [j31.2.2.2.2.2.2.2 12 x rfl]; exact hB
        generalize h34 : s33.sI 7 x (nI k) = s34
        have j34 : Mf cX σ s34 := by rw [← h34]; exact j33.sI rfl
        have e34 : ∀ F, F ≠ 7 → s34.fi F x = s33.fi F x := fun F hF => by rw [← h34]; exact if_neg (fun q => hF q.1)
        have d34 := j34.xd hd
        have t34 := j34.xt cX_hi h
        have x34 := d34.1.1
        have g9 : s34.fi 9 x = nI (sn ||| freshS R S q p k) := by rw [e34 9 (by decide), e33' 9 (by decide) (by decide), ← h31]; exact if_pos ⟨rfl, rfl⟩
        have g8 : s34.fi 8 x = zI ld := by rw [e34 8 (by decide), e33' 8 (by decide) (by decide), e31 8 (by decide)]; exact i2
        have g10 : s34.fi 10 x = zI (-2) := by rw [e34 10 (by decide), e33' 10 (by decide) (by decide), e31 10 (by decide)]; exact i4
        have g6 : s34.fi 6 x = nI (bo + (cmS (bB B) (R 0) (k - fr) dr).1) := by rw [e34 6 (by decide)]; exact k6
        have g11 : B = true → s34.fi 11 x = nI (cmS (bB B) (R 0) (k - fr) dr).2 ∧ (cmS (bB B) (R 0) (k - fr) dr).2 < 65537 := fun hBt => ⟨by rw [e34 11 (by decide)]; exact (k11 hBt).1, (k11 hBt).2⟩
        have g7 : s34.fi 7 x = zI k := by rw [← h34, fi_sI, up2_ap, if_pos ⟨rfl, rfl⟩]; exact nI_z k
        obtain ⟨hey1, hey2⟩ := X_eyesAll d34 t34 hw0 (pl := pl) (by rw [j34.2.2.2.2.2.2.2 4 x rfl]; exact hpl) hpm (s := sn ||| freshS R S q p k) (by omega)
        have hc1 := cmS_le (bB B) (R 0) (k - fr) dr
        have hm1 : (-1 : Int32) = nI 4294967295 := rfl
        have l1 : (1 : Int32) = nI 1 := rfl
        have l31 : (31 : Int32) = nI 31 := rfl
        have hmain : sX1_brawls_L56 x (some s) (nI p) (some (w 2 q)) (zI g) (n + 1) b (nI k) = (if (nI (eyesS R (eyP R pl) (sn ||| freshS R S q p k)) + 2 * nI (bo + (cmS (bB B) (R 0) (k - fr) dr).1)) < 6 then (gI s34 8 (some x) fun v40 => pI s34 8 (some x) (v40 + zI g) fun s41 => gI s41 8 (some x) fun v42 => gI s41 75 (some (w 2 q)) fun v43 => if (abI v42) < v43 then (sX1_brawls_L56 x (some s) (nI p) (some (w 2 q)) (zI g) n s41 (nI k + 1)) else (gI s41 8 (some x) fun v44 => if v44 ≤ 0 then (some (.inl (s41, 2))) else (some (.inl (s41, 1))))) else (kd s34 x 5 <| bp (sX1_people s34 x) fun v46 => bp (sX1_brawls_L189 x (nI FX) FU s34 (v46 - 1)) fun (s57 : St) => some (.inl (s57, 0)))) := by
          rw [sX1_brawls_L56]
          rw [if_neg (show ¬ (59 : Int32) < nI k from nI_nlt (a := 59) (b := k) (by omega) (by omega)), bs.i21, hwt1, bp_s, bt.q71 hq, bt.q72 hq, g9_5 bx, g9_5 bx, i3, p9_5 bx blo, hm1, l1, l31, nI_shl1 (by omega), nI_shl1 (by omega), nI_xor, nI_xor, nI_xor, nI_and, nI_and, nI_and, nI_or, hFX, hFo, h31, g12_5 (j31.xd hd).1.1, g12]
          rw [show (nI 1 : Int32) = 1 from rfl]
          rw [e33, bp_s, p7_5 (j33.xd hd).1.1 (j33.xd hd).1.2.1, h34, g9_5 x34, g9, d34.k5, hey1, bp_s, g6_5 x34, g6]
        show Wp (sX1_brawls_L56 x (some s) (nI p) (some (w 2 q)) (zI g) (n + 1) b (nI k)) _
        rw [hmain]
        rw [show 60 - k = (60 - (k + 1)) + 1 by omega, runS] at i12
        have hlt : (nI (eyesS R (eyP R pl) (sn ||| freshS R S q p k)) + 2 * nI (bo + (cmS (bB B) (R 0) (k - fr) dr).1) < 6) = (eyesS R (eyP R pl) (sn ||| freshS R S q p k) + 2 * (bo + (cmS (bB B) (R 0) (k - fr) dr).1) < 6) := by
          rw [show (2 : Int32) = nI 2 from rfl, show (6 : Int32) = nI 6 from rfl, pk_mul, nI_add, nI_lt' (by omega) (by omega)]
        rw [iteP hlt]
        by_cases hA : eyesS R (eyP R pl) (sn ||| freshS R S q p k) + 2 * (bo + (cmS (bB B) (R 0) (k - fr) dr).1) < 6
        · rw [if_pos hA] at i12 ⊢
          rw [g8_5 x34, g8, p8_5 x34 d34.1.2.1, zI_add]
          generalize h41 : s34.sI 8 x (zI (ld + g)) = s41
          have j41 : Mf cX σ s41 := by rw [← h41]; exact j34.sI rfl
          have e41 : ∀ F, F ≠ 8 → s41.fi F x = s34.fi F x := fun F hF => by rw [← h41]; exact if_neg (fun q => hF q.1)
          have v8 : s41.fi 8 x = zI (ld + g) := by rw [← h41]; exact if_pos ⟨rfl, rfl⟩
          have d41 := j41.xd hd
          have t41 := j41.xt cX_hi h
          have e2 : (abI (zI (ld + g)) < nI (R (84 + 5 * q))) = ((if 0 ≤ ld + g then ld + g else -(ld + g)) < (R (84 + 5 * q) : Int)) := by
            rw [abI_z (by omega) (by omega), nI_z (R (84 + 5 * q)), zI_lt (by split <;> omega) (by split <;> omega) (by omega) (by omega)]
          have h0 : (zI (ld + g) ≤ 0) = (ld + g ≤ 0) := by
            rw [show (0 : Int32) = zI 0 from rfl, zI_le (by omega) (by omega) (by omega) (by omega)]
          rw [g8_5 d41.1.1, v8, t41.q75 hq, g8_5 d41.1.1, v8, iteP e2, iteP h0, nI_1]
          by_cases hC : (R (84 + 5 * q) : Int) ≤ ld + g ∨ (R (84 + 5 * q) : Int) ≤ -(ld + g)
          · rw [if_pos hC] at i12
            rw [if_neg (by split <;> omega)]
            have hen : O.en = if ld + g ≤ 0 then 2 else 1 := by rw [← i12]; rfl
            have hne : ¬ O.en = 0 := by rw [hen]; split <;> decide
            have hXF : XF s41 x R B O := ⟨by rw [e41 7 (by decide), g7, ← i12]; rfl, by rw [v8, ← i12]; rfl, by rw [e41 9 (by decide), g9, ← i12]; rfl, by rw [e41 10 (by decide), g10, thirdS, if_neg hne], fun hBt => by rw [e41 11 (by decide), ← i12]; exact g11 hBt⟩
            by_cases hD : ld + g ≤ 0
            · rw [if_pos hD] at hen ⊢
              exact ⟨_, rfl, Or.inl ⟨s41, by rw [hen]; rfl, j41, hXF⟩⟩
            · rw [if_neg hD] at hen ⊢
              exact ⟨_, rfl, Or.inl ⟨s41, by rw [hen]; rfl, j41, hXF⟩⟩
          · rw [if_neg hC] at i12
            rw [if_pos (by split <;> omega)]
            exact hn hk' s41 ⟨ld + g, _, _, _, _, j41, v8, (e41 9 (by decide)).trans g9, (e41 10 (by decide)).trans g10, (e41 6 (by decide)).trans g6, fun hBt => ⟨(e41 11 (by decide)).trans (g11 hBt).1, (g11 hBt).2⟩, by omega, by omega, hsn, by omega, by omega, i12⟩
        · rw [if_neg hA] at i12 ⊢
          rw [d34.k5, X_people d34 t34, bp_s]
          obtain ⟨s57, e57, m57, v57⟩ := X_third x34 d34.1.2.1 w4 (v := FX) (by omega) g10
          rw [e57, bp_s]
          have f57 : ∀ F, F ≠ 10 → s57.fi F x = s34.fi F x := fun F hF => m57.2.2.2.2.2.2.2 F x (by simp [c10, hF])
          have hen : O.en = 0 := by rw [← i12]; rfl
          refine ⟨_, rfl, Or.inl ⟨s57, by rw [hen]; rfl, j34.tr (m57.mono (fun F hF => by simp [cX] at hF; simp [c10]; omega)), ?_, ?_, ?_, ?_, ?_⟩⟩
          · rw [f57 7 (by decide), g7, ← i12]; rfl
          · rw [f57 8 (by decide), g8, ← i12]; rfl
          · rw [f57 9 (by decide), g9, ← i12]; rfl
          · rw [v57, thirdS, if_pos hen, ← hFd, ← i12]; rfl
          · intro hBt
            rw [f57 11 (by decide), ← i12]
            exact g11 hBt) fr (by omega) s18 ⟨0, 0, 0, 0, dr, j18, f18.1, f18.2.1, f18.2.2.1, f18.2.2.2.1, fun hBt => by rw [f18.2.2.2.2]; exact hdr hBt, by omega, by omega, by omega, by omega, by omega, hO⟩
  obtain ⟨v, e, hv⟩ := hl
  have e' : sX1_brawls_L56 x (some s) (nI p) (some (w 2 q)) (zI g) FU s18 (nI fr) = some v := e
  unfold sX1_brawls
  rw [hd.r1001, h.i10, h.qg hw0 hq, bp_s, h.q71 hq, hd.k5, X_witOf hd h hw0 ho ho6 u1, bp_s, h.q72 hq, hd.k5, X_witOf hd h hw0 ho ho6 u2, bp_s, p9_5 hx hlo, p8_5 (σ := σ.sI 9 x 0) hx hlo, p10_5 (σ := (σ.sI 9 x 0).sI 8 x 0) hx hlo, p6_5 (σ := ((σ.sI 9 x 0).sI 8 x 0).sI 10 x (-2)) hx hlo, h18, nI_subz, hg, e']
  rcases hv with ⟨τ, rfl, q1, q2⟩ | ⟨τ, rfl, q1, q2, q3, q4, q5, q6, q7⟩
  · rw [lc_l]
    exact ⟨τ, rfl, q1, q2⟩
  · have x1 := (q1.xd hd).1.1
    have l1 := (q1.xd hd).1.2.1
    rw [lc_r, p7_5 x1 l1]
    refine ⟨_, by rw [q2]; rfl, q1.sI rfl, ?_, ?_, ?_, ?_, ?_⟩
    · rw [fi_sI, up2_ap, if_pos ⟨rfl, rfl⟩, q3]; rfl
    · rw [fi_sI, up2_ap, if_neg (by omega)]; exact q4
    · rw [fi_sI, up2_ap, if_neg (by omega)]; exact q5
    · rw [fi_sI, up2_ap, if_neg (by omega)]; exact q6
    · rw [fi_sI, up2_ap, if_neg (by omega)]; exact q7
