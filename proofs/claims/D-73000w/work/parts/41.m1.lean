/-! THE MODEL's small methods -/
set_option maxRecDepth 100000
/-- d rounds from k on -/
def itN {β : Type} (f : Nat → β → β) : Nat → Nat → β → β
  | 0, _, b => b
  | d + 1, k, b => itN f d (k + 1) (f k b)
theorem loop_it {β γ : Type} {L : Nat → β → Int32 → Option γ} {f : Nat → β → β} {out : β → γ} {K : Nat} (I : Nat → β → Prop) (hs : ∀ n k b, k < K → I k b → L (n + 1) b (nI k) = L n (f k b) (nI (k + 1))) (hI : ∀ k b, k < K → I k b → I (k + 1) (f k b)) (he : ∀ n b, I K b → L (n + 1) b (nI K) = some (out b)) :
    ∀ d k b n, k + d = K → I k b → d < n → L n b (nI k) = some (out (itN f d k b)) := by
  intro d
  induction d with
  | zero =>
    intro k b n hk hb hn
    obtain ⟨n, rfl⟩ : ∃ m, n = m + 1 := ⟨n - 1, by omega⟩
    obtain rfl : k = K := by omega
    exact he n b hb
  | succ d ih =>
    intro k b n hk hb hn
    obtain ⟨n, rfl⟩ : ∃ m, n = m + 1 := ⟨n - 1, by omega⟩
    rw [hs n k b (by omega) hb]
    exact ih (k + 1) (f k b) n (by omega) (hI k b (by omega) hb) (by omega)
theorem itN_inv {β : Type} {f : Nat → β → β} {K : Nat} (I : Nat → β → Prop) (hI : ∀ k b, k < K → I k b → I (k + 1) (f k b)) : ∀ d k b, k + d = K → I k b → I K (itN f d k b) := by
  intro d
  induction d with
  | zero => intro k b hk hb; obtain rfl : k = K := by omega
            exact hb
  | succ d ih => intro k b hk hb; exact ih (k + 1) (f k b) (by omega) (hI k b (by omega) hb)
/-- a counting loop from 0 to K, with an invariant: what it returns -/
theorem loop_FU {β γ : Type} (L : Nat → β → Int32 → Option γ) (f : Nat → β → β) (out : β → γ) (K : Nat) (I : Nat → β → Prop) (hK : K < 100000) (b : β) (hb : I 0 b) (hs : ∀ n k b, k < K → I k b → L (n + 1) b (nI k) = L n (f k b) (nI (k + 1))) (hI : ∀ k b, k < K → I k b → I (k + 1) (f k b)) (he : ∀ n b, I K b → L (n + 1) b (nI K) = some (out b)) : L FU b (nI 0) = some (out (itN f K 0 b)) ∧ I K (itN f K 0 b) :=
  ⟨loop_it I hs hI he K 0 b FU (by omega) hb hK, itN_inv I hI K 0 b (by omega) hb⟩
theorem bitsh : ∀ k, k < 32 → ((nI k &&& nI 31).toBitVec.smod 32).toNat = k := by decide +kernel
theorem nI_and (a b : Nat) : nI a &&& nI b = nI (a &&& b) := by
  apply Int32.toBitVec_inj.mp
  show BitVec.ofNat 32 a &&& BitVec.ofNat 32 b = BitVec.ofNat 32 (a &&& b)
  exact BitVec.ofNat_and.symm
theorem nI_or (a b : Nat) : nI a ||| nI b = nI (a ||| b) := by
  apply Int32.toBitVec_inj.mp
  show BitVec.ofNat 32 a ||| BitVec.ofNat 32 b = BitVec.ofNat 32 (a ||| b)
  exact BitVec.ofNat_or.symm
theorem nI_xor (a b : Nat) : nI a ^^^ nI b = nI (a ^^^ b) := by
  apply Int32.toBitVec_inj.mp
  show BitVec.ofNat 32 a ^^^ BitVec.ofNat 32 b = BitVec.ofNat 32 (a ^^^ b)
  exact BitVec.ofNat_xor.symm
theorem nI_m1 : (-1 : Int32) = nI 4294967295 := rfl
theorem nI_shl1 {k : Nat} (hk : k < 32) : nI 1 <<< (nI k &&& nI 31) = nI (2 ^ k) := by
  have h : 1 * 2 ^ k < 2 ^ 32 := by rw [Nat.one_mul]; exact Nat.pow_lt_pow_right (by decide) hk
  rw [pk_shlN _ k (bitsh k hk) h, Nat.one_mul]
def b1 (b : Bool) : Nat := if b then 1 else 0
theorem nI_testBit {s k : Nat} (hs : s < 2147483648) (hk : k < 32) : ((nI s >>> (nI k &&& nI 31)) &&& nI 1) = nI (b1 (s.testBit k)) := by
  rw [pk_shrN hs _ k (bitsh k hk), nI_and]
  congr 1
  rw [Nat.and_one_is_mod]
  unfold b1
  rw [Nat.testBit_eq_decide_div_mod_eq]
  by_cases h : s / 2 ^ k % 2 = 1
  · rw [h]; rfl
  · rw [if_neg (by simpa using h)]; omega
theorem M_hasBit {s0 : St} {s k : Nat} (hs : s < 2147483648) (hk : k < 32) : sX2_hasBit s0 (nI s) (nI k) = some (nI (b1 (s.testBit k))) := by
  unfold sX2_hasBit
  simp only [lit_nI, nI_testBit hs hk]
  cases s.testBit k <;> rfl
theorem b1_0 (b : Bool) : (nI (b1 b) = nI 0) = (b = false) := by cases b <;> simp [b1, nI_eq']
/-- eyes of a set -/
def eyesS (R E : Nat → Nat) (s : Nat) : Nat := itN (fun m n => n + b1 (s.testBit m) * E m) (R 3) 0 0
theorem M_eyesOf {σ : St} {mo : Nat} (h : MS σ mo) {R E : Nat → Nat} (hr : ∀ i, i < 241 → σ.ai (mo + 3) i = nI (R i)) (he : ∀ i, i < R 3 → σ.ai (mo + 10) i = nI (E i)) (hE : ∀ i, E i ≤ 2) (hm : R 3 ≤ 6) {s : Nat} (hs : s < 2147483648) : sX2_eyesOf σ mo (nI s) = some (nI (eyesS R E s)) ∧ eyesS R E s ≤ 12 := by
  unfold sX2_eyesOf
  obtain ⟨hl, hb⟩ := loop_FU (fun n b k => sX2_eyesOf_L4 σ mo (nI s) n (nI b) k) (fun m n => n + b1 (s.testBit m) * E m) nI (R 3) (fun k b => b ≤ 2 * k) (by omega) 0 (by omega) (fun n k b hk _ => by
      simp (disch := omega) only [sX2_eyesOf_L4, lit_nI, M_r1011 h, M_l3 h, hr, nI_le', if_neg (Nat.not_le.mpr hk), M_hasBit, bp_s, b1_0]
      cases s.testBit k
      · simp [bp_s, nI_add, b1]
      · simp (disch := omega) [M_r1018 h, M_l10 h, he, bp_s, nI_add, b1]) (fun k b hk hb => by
      have := hE k
      cases s.testBit k <;> simp [b1] <;> omega) (fun n b _ => by
      simp (disch := omega) only [sX2_eyesOf_L4, lit_nI, M_r1011 h, M_l3 h, hr, nI_le', Nat.le_refl, if_true])
  refine ⟨?_, Nat.le_trans hb (by omega)⟩
  simp only [lit_nI]
  rw [hl, bp_s]
  rfl
/-- where someone is: tr: sent and 1 -/
def placeS (R tr : Nat → Nat) (m t : Nat) : Nat := if 0 < tr m then tr m - 1 else itN (fun k p => if R (50 + 3 * k) = m ∧ R (52 + 3 * k) ≤ t then R (51 + 3 * k) else p) (R 4) 0 (R (27 + 4 * m))
/-- array j of the model holds f (numbers) -/
def AR (σ : St) (mo j len : Nat) (f : Nat → Nat) : Prop := ∀ i, i < len → σ.ai (mo + j) i = nI (f i)
theorem AR_sI {σ : St} {mo j len F a : Nat} {v : Int32} {f : Nat → Nat} : AR (σ.sI F a v) mo j len f = AR σ mo j len f := rfl
theorem AR_aI {σ : St} {mo j j2 len : Nat} {g : Nat → Int32} {f : Nat → Nat} (h : j ≠ j2) : AR (σ.aI (mo + j2) g) mo j len f = AR σ mo j len f := by
  have : ∀ i, (σ.aI (mo + j2) g).ai (mo + j) i = σ.ai (mo + j) i := fun i => by
    rw [ai_aI, up1_ap, if_neg (by omega)]
  simp only [AR, this]
/-- what a town told must keep to -/
def WF (R : Nat → Nat) : Prop := R 0 ≤ 100 ∧ 1 ≤ R 1 ∧ R 1 ≤ 6 ∧ R 2 ≤ 8 ∧ R 3 ≤ 6 ∧ R 4 ≤ 10 ∧ R 5 ≤ 3 ∧ R 7 ≤ 4 ∧
  (∀ k, k < R 2 → R (10 + 2 * k) < R 1 ∧ R (11 + 2 * k) < R 1) ∧
  (∀ k, k < R 3 → R (26 + 4 * k) ≤ 3 ∧ R (27 + 4 * k) < R 1 ∧ R (28 + 4 * k) ≤ 9 ∧ R (29 + 4 * k) ≤ 21) ∧
  (∀ k, k < R 4 → R (50 + 3 * k) < R 3 ∧ R (51 + 3 * k) < R 1 ∧ 1 ≤ R (52 + 3 * k) ∧ R (52 + 3 * k) ≤ 59) ∧
  (∀ k, k < R 5 → R (80 + 5 * k) < R 3 ∧ R (81 + 5 * k) < R 3 ∧ R (80 + 5 * k) ≠ R (81 + 5 * k) ∧ R (82 + 5 * k) < R 1 ∧ R (83 + 5 * k) ≤ 59 ∧ 1 ≤ R (84 + 5 * k) ∧ R (84 + 5 * k) ≤ 99) ∧
  (∀ k, k < R 7 → R (95 + 2 * k) < R 3 ∧ R (96 + 2 * k) ≤ 9 ∧ ∀ j, j < k → R (95 + 2 * j) ≠ R (95 + 2 * k)) ∧
  (∀ k, k < R 5 → R (103 + k) ≤ 60)
theorem M_placeOf {σ : St} {mo : Nat} (h : MS σ mo) {R tr : Nat → Nat} (hr : AR σ mo 3 241 R) (ht : AR σ mo 8 8 tr) (hw : WF R) (htr : ∀ m, m < 6 → tr m ≤ 6) {m t : Nat} (hm : m < R 3) (ht60 : t < 60) : sX2_placeOf σ mo (nI m) (nI t) = some (nI (placeS R tr m t)) ∧ placeS R tr m t < 6 := by
  obtain ⟨w0, w1, w2, w3, w4, w5, w6, w7, w8, w9, w10, w11, w12, w13⟩ := hw
  have hm6 : m < 6 := by omega
  have htm := htr m hm6
  have hk := w9 m hm
  have hR : ∀ i, i < 241 → σ.ai (mo + 3) i = nI (R i) := hr
  unfold sX2_placeOf placeS
  simp (disch := omega) only [lit_nI, M_r1016 h, M_l8 h, ht m (by omega), nI_le']
  by_cases h0 : 0 < tr m
  · rw [if_neg (by omega), if_pos h0]
    simp (disch := omega) only [pk_sub]
    exact ⟨trivial, by omega⟩
  · rw [if_pos (by omega), if_neg h0]
    simp (disch := omega) only [M_r1011 h, pk_mul, nI_add, M_l3 h, hR]
    obtain ⟨hl, hb⟩ := loop_FU (fun n b k => sX2_placeOf_L35 σ mo (nI m) (nI t) n (nI b) k) (fun k p => if R (50 + 3 * k) = m ∧ R (52 + 3 * k) ≤ t then R (51 + 3 * k) else p) nI (R 4) (fun k b => b < 6) (by omega) (R (26 + 4 * m + 1)) (by have := hk.2.1; rw [show 26 + 4 * m + 1 = 27 + 4 * m by omega]; omega) (fun n k b hk _ => by
      have hg := w10 k hk
      simp (disch := omega) only [sX2_placeOf_L35, lit_nI, M_r1011 h, M_l3 h, hR, nI_le', if_neg (Nat.not_le.mpr hk), pk_mul, nI_add, nI_eq', nI_lt', show 50 + 3 * k + 2 = 52 + 3 * k by omega, show 50 + 3 * k + 1 = 51 + 3 * k by omega]
      by_cases c1 : R (50 + 3 * k) = m
      · by_cases c2 : t < R (52 + 3 * k)
        · simp only [c1, c2, if_true, bp_s, true_and, if_neg (Nat.not_le.mpr c2)]
        · simp only [c1, c2, if_true, if_false, bp_s, true_and, if_pos (Nat.not_lt.mp c2)]
      · simp only [c1, if_false, bp_s, false_and]) (fun k b hk hb => by
      have hg := w10 k hk
      split
      · omega
      · exact hb) (fun n b _ => by
      simp (disch := omega) only [sX2_placeOf_L35, lit_nI, M_r1011 h, M_l3 h, hR, nI_le', Nat.le_refl, if_true])
    rw [show 26 + 4 * m + 1 = 27 + 4 * m by omega] at hl hb ⊢
    exact ⟨by rw [hl, bp_s], hb⟩
theorem pow_le_of {a n : Nat} (h : a < n) : 2 ^ a < 2 ^ n := Nat.pow_lt_pow_right (by decide) h
/-- places that one sees from p -/
def intoS (R : Nat → Nat) (br p : Nat) : Nat := itN (fun k s => s ||| if R (10 + 2 * k) = p ∧ br.testBit k = false then 2 ^ R (11 + 2 * k) else 0) (R 2) 0 (2 ^ p)
theorem M_intoOf {σ : St} {mo : Nat} (h : MS σ mo) {R tr : Nat → Nat} (hr : AR σ mo 3 241 R) (ht : AR σ mo 8 8 tr) (hw : WF R) (h6 : tr 6 < 256) {p : Nat} (hp : p < 6) : sX2_intoOf σ mo (nI p) = some (nI (intoS R (tr 6) p)) ∧ intoS R (tr 6) p < 64 := by
  obtain ⟨w0, w1, w2, w3, w4, w5, w6, w7, w8, w9, w10, w11, w12, w13⟩ := hw
  have hR : ∀ i, i < 241 → σ.ai (mo + 3) i = nI (R i) := hr
  have hT : ∀ i, i < 8 → σ.ai (mo + 8) i = nI (tr i) := ht
  unfold sX2_intoOf intoS
  obtain ⟨hl, hb⟩ := loop_FU (fun n b k => sX2_intoOf_L6 σ mo (nI p) n (nI b) k) (fun k s => s ||| if R (10 + 2 * k) = p ∧ (tr 6).testBit k = false then 2 ^ R (11 + 2 * k) else 0) nI (R 2) (fun k b => b < 64) (by omega) (2 ^ p) (pow_le_of (n := 6) hp) (fun n k b hk _ => by
      have hg := w8 k hk
      simp (disch := omega) only [sX2_intoOf_L6, lit_nI, M_r1011 h, M_r1016 h, M_l3 h, M_l8 h, hR, hT, nI_le', if_neg (Nat.not_le.mpr hk), pk_mul, nI_add, nI_eq', show 10 + 2 * k + 1 = 11 + 2 * k by omega, M_kd h, M_hasBit, bp_s, b1_0, nI_shl1]
      by_cases c1 : R (10 + 2 * k) = p
      · cases c2 : (tr 6).testBit k
        · simp [c1, bp_s, nI_or]
        · simp [c1, bp_s, nI_or]
      · simp [c1, bp_s, nI_or]) (fun k b hk hb => by
      have hg := w8 k hk
      refine Nat.or_lt_two_pow (n := 6) hb ?_
      split
      · exact pow_le_of (by omega)
      · decide) (fun n b _ => by
      simp (disch := omega) only [sX2_intoOf_L6, lit_nI, M_r1011 h, M_l3 h, hR, nI_le', Nat.le_refl, if_true])
  simp (disch := omega) only [lit_nI, nI_shl1]
  exact ⟨by rw [hl, bp_s], hb⟩
def watchS (R tr : Nat → Nat) (p t : Nat) : Nat := itN (fun m s => s ||| b1 ((intoS R (tr 6) (placeS R tr m t)).testBit p) * 2 ^ m) (R 3) 0 0
/-- the model's town and what is tried on it: bounds -/
def TB (tr : Nat → Nat) : Prop := (∀ m, m < 6 → tr m ≤ 6) ∧ tr 6 < 256
theorem M_watchersOf {σ : St} {mo : Nat} (h : MS σ mo) {R tr : Nat → Nat} (hr : AR σ mo 3 241 R) (ht : AR σ mo 8 8 tr) (hw : WF R) (hb : TB tr) {p t : Nat} (hp : p < 6) (ht60 : t < 60) : sX2_watchersOf σ mo (nI p) (nI t) = some (nI (watchS R tr p t)) ∧ watchS R tr p t < 64 := by
  have hR : ∀ i, i < 241 → σ.ai (mo + 3) i = nI (R i) := hr
  have w5 : R 3 ≤ 6 := hw.2.2.2.2.1
  unfold sX2_watchersOf watchS
  obtain ⟨hl, hb⟩ := loop_FU (fun n b k => sX2_watchersOf_L5 σ mo (nI p) (nI t) n (nI b) k) (fun m s => s ||| b1 ((intoS R (tr 6) (placeS R tr m t)).testBit p) * 2 ^ m) nI (R 3) (fun k b => b < 64) (by omega) 0 (by decide) (fun n k b hk _ => by
      have h1 := M_placeOf h hr ht hw hb.1 hk ht60
      have h2 := M_intoOf h hr ht hw hb.2 h1.2
      simp (disch := omega) only [sX2_watchersOf_L5, lit_nI, M_r1011 h, M_l3 h, hR, nI_le', if_neg (Nat.not_le.mpr hk), M_kd h, h1.1, h2.1, M_hasBit, bp_s, b1_0, nI_shl1]
      cases (intoS R (tr 6) (placeS R tr k t)).testBit p
      · simp [bp_s, nI_or, nI_add, b1]
      · simp [bp_s, nI_or, nI_add, b1]) (fun k b hk hb => by
      refine Nat.or_lt_two_pow (n := 6) hb ?_
      have := pow_le_of (a := k) (n := 6) (by omega)
      unfold b1
      split <;> omega) (fun n b _ => by
      simp (disch := omega) only [sX2_watchersOf_L5, lit_nI, M_r1011 h, M_l3 h, hR, nI_le', Nat.le_refl, if_true])
  simp only [lit_nI]
  exact ⟨by rw [hl, bp_s], hb⟩
/-- a counting loop whose state behind k rounds is known -/
theorem loop_K {β γ : Type} (L : Nat → β → Int32 → Option γ) (S : Nat → β) (K : Nat) (out : γ) (hK : K < 100000) (hs : ∀ n k, k < K → L (n + 1) (S k) (nI k) = L n (S (k + 1)) (nI (k + 1))) (he : ∀ n, L (n + 1) (S K) (nI K) = some out) : L FU (S 0) (nI 0) = some out := by
  have h : ∀ d k n, k + d = K → d < n → L n (S k) (nI k) = some out := by
    intro d
    induction d with
    | zero =>
      intro k n hk hn
      obtain ⟨n, rfl⟩ : ∃ m, n = m + 1 := ⟨n - 1, by omega⟩
      obtain rfl : k = K := by omega
      exact he n
    | succ d ih =>
      intro k n hk hn
      obtain ⟨n, rfl⟩ : ∃ m, n = m + 1 := ⟨n - 1, by omega⟩
      rw [hs n k (by omega)]
      exact ih (k + 1) n (by omega) (by omega)
  exact h K 0 FU (by omega) hK
theorem aI_self (σ : St) (a : Nat) : σ.aI a (σ.ai a) = σ := by
  have e : up1 σ.ai a (σ.ai a) = σ.ai := by
    funext b
    rw [up1_ap]
    split
    · next h => rw [h]
    · rfl
  unfold St.aI
  rw [e]
  rfl
theorem aI_aI (σ : St) (a : Nat) (g k : Nat → Int32) : (σ.aI a g).aI a k = σ.aI a k := by
  unfold St.aI
  congr 1
  funext b
  show up1 (up1 σ.ai a g) a k b = _
  simp only [up1_ap]
  split <;> rfl
theorem cpF_0 {α : Type} (f g : Nat → α) (sp dp : Nat) : cpF f g sp dp 0 = g := by
  funext k
  unfold cpF
  rw [if_neg (by omega)]
theorem cpF_s {α : Type} (f g : Nat → α) (sp dp n : Nat) : upA (cpF f g sp dp n) (dp + n) (f (sp + n)) = cpF f g sp dp (n + 1) := by
  funext k
  unfold upA cpF
  by_cases h : k = dp + n
  · rw [if_pos h, if_pos (by omega)]
    congr 1
    omega
  · rw [if_neg h]
    by_cases h2 : dp ≤ k ∧ k < dp + n
    · rw [if_pos h2, if_pos (by omega)]
    · rw [if_neg h2, if_neg (by omega)]
theorem M_copy {σ : St} {a b la lb sp dp n : Nat} (hab : a ≠ b) (ha : σ.ob a = 1) (hb : σ.ob b = 1) (hla : σ.ln a = la) (hlb : σ.ln b = lb) (hlo : σ.lo ≤ b) (h1 : sp + n ≤ la) (h2 : dp + n ≤ lb) (h3 : la < 10000) (h4 : lb < 10000) : sX2_copy σ (some a) (nI sp) (some b) (nI dp) (nI n) = some (σ.aI b (cpF (σ.ai a) (σ.ai b) sp dp n)) := by
  unfold sX2_copy
  have hl := loop_K (fun m s k => sX2_copy_L3 (some a) (nI sp) (some b) (nI dp) (nI n) m s k) (fun k => σ.aI b (cpF (σ.ai a) (σ.ai b) sp dp k)) n (σ.aI b (cpF (σ.ai a) (σ.ai b) sp dp n)) (by omega) (fun m k hk => by
      simp (disch := omega) only [sX2_copy_L3, lit_nI, nI_le', if_neg (Nat.not_le.mpr hk), nI_add]
      rw [lI_ap (len := la) (by rw [ob_aI]; exact ha) (by rw [ln_aI]; exact hla) (by omega) (by omega), tI_ap (len := lb) (by rw [ob_aI]; exact hb) (by rw [lo_aI]; exact hlo) (by rw [ln_aI]; exact hlb) (by omega) (by omega), aI_aI, ai_aI, up1_ne hab, up1_eq, cpF_s]) (fun m => by
      simp (disch := omega) only [sX2_copy_L3, lit_nI, nI_le', Nat.le_refl, if_true])
  simp only [cpF_0, aI_self] at hl
  simp only [lit_nI]
  rw [hl, bp_s]
/-- a query: the model's heap is as it was but for its own scratch (arrays 8 to 11, the fields of a run) -/
def scr (F : Nat) : Bool := [34, 35, 36, 37, 38, 39, 40, 41, 42, 43, 44].contains F
def Mq (mo : Nat) (σ τ : St) : Prop := τ.nn = σ.nn ∧ τ.ob = σ.ob ∧ τ.ln = σ.ln ∧ τ.fr = σ.fr ∧ (∀ a, (a < mo + 8 ∨ mo + 11 < a) → τ.ai a = σ.ai a) ∧ (∀ F a, scr F = false → τ.fi F a = σ.fi F a) ∧ τ.al = σ.al ∧ τ.ar = σ.ar
theorem Mq.rf (mo : Nat) (σ : St) : Mq mo σ σ := ⟨rfl, rfl, rfl, rfl, fun _ _ => rfl, fun _ _ _ => rfl, rfl, rfl⟩
theorem Mq.tr {mo : Nat} {σ τ υ : St} (h : Mq mo σ τ) (k : Mq mo τ υ) : Mq mo σ υ :=
  ⟨k.1.trans h.1, k.2.1.trans h.2.1, k.2.2.1.trans h.2.2.1, k.2.2.2.1.trans h.2.2.2.1, fun a ha => (k.2.2.2.2.1 a ha).trans (h.2.2.2.2.1 a ha), fun F a hF => (k.2.2.2.2.2.1 F a hF).trans (h.2.2.2.2.2.1 F a hF), k.2.2.2.2.2.2.1.trans h.2.2.2.2.2.2.1, k.2.2.2.2.2.2.2.trans h.2.2.2.2.2.2.2⟩
theorem Mq.sI {mo : Nat} {σ τ : St} (h : Mq mo σ τ) {F a : Nat} {v : Int32} (hF : scr F = true) : Mq mo σ (τ.sI F a v) :=
  h.tr ⟨rfl, rfl, rfl, rfl, fun _ _ => rfl, fun G b hG => if_neg (fun q => by rw [q.1, hF] at hG; cases hG), rfl, rfl⟩
theorem Mq.aI {mo : Nat} {σ τ : St} (h : Mq mo σ τ) {a : Nat} {g : Nat → Int32} (h1 : mo + 8 ≤ a) (h2 : a ≤ mo + 11) : Mq mo σ (τ.aI a g) :=
  h.tr ⟨rfl, rfl, rfl, rfl, fun b hb => up1_ne (by omega), fun _ _ _ => rfl, rfl, rfl⟩
theorem Mq.ms {mo : Nat} {σ τ : St} (h : Mq mo σ τ) (hm : MS σ mo) : MS τ mo := by
  obtain ⟨h1, h2, h3, h4, -⟩ := h
  have e : τ.lo = σ.lo := by simp only [St.lo, h1]
  unfold MS
  rw [h2, h3, h4, e]
  exact hm
theorem Mq.ar {mo j len : Nat} {σ τ : St} {f : Nat → Nat} (h : Mq mo σ τ) (hj : j < 8) (hm : AR σ mo j len f) : AR τ mo j len f := fun i hi => by
  rw [h.2.2.2.2.1 (mo + j) (by omega)]
  exact hm i hi
/-- what an expression answers -/
def Wp {γ : Type} (e : Option γ) (Q : γ → Prop) : Prop := ∃ r, e = some r ∧ Q r
theorem W_ret {γ : Type} {Q : γ → Prop} {r : γ} (h : Q r) : Wp (some r) Q := ⟨r, rfl, h⟩
theorem W_bp {α γ : Type} {e : Option α} {k : α → Option γ} {P : α → Prop} {Q : γ → Prop} (h : Wp e P) (hk : ∀ r, P r → Wp (k r) Q) : Wp (bp e k) Q := by
  obtain ⟨r, rfl, hr⟩ := h
  exact hk r hr
theorem W_mono {γ : Type} {e : Option γ} {P Q : γ → Prop} (h : Wp e P) (hk : ∀ r, P r → Q r) : Wp e Q := by
  obtain ⟨r, e, hr⟩ := h
  exact ⟨r, e, hk r hr⟩
/-- a counting loop -/
theorem W_loop {β γ : Type} (L : Nat → β → Int32 → Option γ) (K : Nat) (I : Nat → β → Prop) {Q : γ → Prop} (hK : K < 100000) (b : β) (hb : I 0 b) (hs : ∀ n k b, k < K → I k b → (∃ b', L (n + 1) b (nI k) = L n b' (nI (k + 1)) ∧ I (k + 1) b') ∨ Wp (L (n + 1) b (nI k)) Q) (he : ∀ n b, I K b → Wp (L (n + 1) b (nI K)) Q) : Wp (L FU b (nI 0)) Q := by
  have h : ∀ d k b n, k + d = K → I k b → d < n → Wp (L n b (nI k)) Q := by
    intro d
    induction d with
    | zero =>
      intro k b n hk hb hn
      obtain ⟨n, rfl⟩ : ∃ m, n = m + 1 := ⟨n - 1, by omega⟩
      obtain rfl : k = K := by omega
      exact he n b hb
    | succ d ih =>
      intro k b n hk hb hn
      obtain ⟨n, rfl⟩ : ∃ m, n = m + 1 := ⟨n - 1, by omega⟩
      rcases hs n k b (by omega) hb with ⟨b', e, hi⟩ | q
      · rw [e]
        exact ih (k + 1) b' n (by omega) hi (by omega)
      · exact q
  exact h K 0 b FU (by omega) hb hK
/-- how many eyes a kind has -/
def eyeK (k : Nat) : Nat := if k = 2 then 0 else if k = 3 then 1 else 2
theorem M_eyesOfKind {σ : St} {k : Nat} (hk : k < 4) : sX2_eyesOfKind σ (nI k) = some (nI (eyeK k)) := by
  unfold sX2_eyesOfKind eyeK
  simp (disch := omega) only [lit_nI, nI_eq']
  split
  · rfl
  · split <;> rfl
/-- wits and eyes as they are told -/
def TR (σ : St) (mo : Nat) (R wt ey : Nat → Nat) : Prop := (∀ m, m < R 3 → σ.ai (mo + 9) m = nI (wt m)) ∧ ∀ m, m < R 3 → σ.ai (mo + 10) m = nI (ey m)
theorem M_asNow {σ : St} {mo : Nat} (h : MS σ mo) {R S : Nat → Nat} (hr : AR σ mo 3 241 R) (hs : AR σ mo 5 8 S) (hw : WF R) : ∃ τ, sX2_asNow σ mo = some τ ∧ Mq mo σ τ ∧ ((∀ F a, τ.fi F a = σ.fi F a) ∧ τ.ai (mo + 11) = σ.ai (mo + 11)) ∧ AR τ mo 8 8 S ∧ TR τ mo R (fun m => R (28 + 4 * m)) (fun m => eyeK (R (26 + 4 * m))) := by
  obtain ⟨w0, w1, w2, w3, w4, w5, w6, w7, w8, w9, w10, w11, w12, w13⟩ := hw
  have hR : ∀ i, i < 241 → σ.ai (mo + 3) i = nI (R i) := hr
  unfold sX2_asNow
  have hob := fun j (h1 : 1 ≤ j) (h2 : j ≤ 11) => (show σ.ob (mo + j) = 1 by
    rcases (show j = 1 ∨ j = 2 ∨ j = 3 ∨ j = 4 ∨ j = 5 ∨ j = 6 ∨ j = 7 ∨ j = 8 ∨ j = 9 ∨ j = 10 ∨ j = 11 by omega) with rfl | rfl | rfl | rfl | rfl | rfl | rfl | rfl | rfl | rfl | rfl <;> simp [MS] at h <;> simp [h])
  have hl5 : σ.ln (mo + 5) = 8 := by simp [MS] at h; simp [h]
  have hl8 : σ.ln (mo + 8) = 8 := by simp [MS] at h; simp [h]
  simp only [lit_nI, M_r1013 h, M_r1016 h]
  rw [M_copy (by omega) (hob 5 (by omega) (by omega)) (hob 8 (by omega) (by omega)) hl5 hl8 (by have := h.2.1; omega) (by omega) (by omega) (by omega) (by omega), bp_s]
  generalize hσ1 : σ.aI (mo + 8) (cpF (σ.ai (mo + 5)) (σ.ai (mo + 8)) 0 0 8) = σ1
  have hq1 : Mq mo σ σ1 := by rw [← hσ1]; exact (Mq.rf mo σ).aI (by omega) (by omega)
  have h1 : MS σ1 mo := hq1.ms h
  have hr1 := hq1.ar (by omega) hr
  have hf1 : ∀ F a, σ1.fi F a = σ.fi F a := fun F a => by rw [← hσ1]; rfl
  have hs1 : AR σ1 mo 8 8 S := fun i hi => by
    rw [← hσ1, ai_aI, up1_eq]
    unfold cpF
    rw [if_pos (by omega), show 0 + (i - 0) = i by omega]
    exact hs i hi
  -- the loop
  have hl := W_loop (fun m s k => sX2_asNow_L17 mo m s k) (R 3) (fun k s => Mq mo σ1 s ∧ ((∀ F a, s.fi F a = σ1.fi F a) ∧ s.ai (mo + 11) = σ1.ai (mo + 11)) ∧ AR s mo 8 8 S ∧ (∀ m, m < k → s.ai (mo + 9) m = nI (R (28 + 4 * m))) ∧ ∀ m, m < k → s.ai (mo + 10) m = nI (eyeK (R (26 + 4 * m)))) (Q := fun s => Mq mo σ1 s ∧ ((∀ F a, s.fi F a = σ1.fi F a) ∧ s.ai (mo + 11) = σ1.ai (mo + 11)) ∧ AR s mo 8 8 S ∧ TR s mo R (fun m => R (28 + 4 * m)) (fun m => eyeK (R (26 + 4 * m)))) (by omega) σ1 ⟨Mq.rf mo σ1, ⟨fun _ _ => rfl, rfl⟩, hs1, fun m hm => by omega, fun m hm => by omega⟩ (fun m k s hk hi => by
      have hmk := w9 k hk
      obtain ⟨i1, i2, i3, i4, i5⟩ := hi
      have h2 : MS s mo := i1.ms h1
      have hR2 : ∀ i, i < 241 → s.ai (mo + 3) i = nI (R i) := i1.ar (by omega) hr1
      have hR3 : ∀ (g : Nat → Int32) i, i < 241 → (s.aI (mo + 9) g).ai (mo + 3) i = nI (R i) := fun g i hi => by rw [ai_aI, up1_ne (by omega)]; exact hR2 i hi
      have h3 : ∀ g : Nat → Int32, MS (s.aI (mo + 9) g) mo := fun g => h2
      refine Or.inl ⟨_, by
        simp (disch := omega) only [sX2_asNow_L17, lit_nI, M_r1011 h2, M_r1017 h2, M_r1018 (h3 _), M_r1011 (h3 _), M_l3 h2, M_l3 (h3 _), M_t9 h2, M_t10 (h3 _), hR2, hR3, nI_le', if_neg (Nat.not_le.mpr hk), pk_mul, nI_add, M_eyesOfKind, bp_s]
        rfl, (i1.aI (by omega) (by omega)).aI (by omega) (by omega), ⟨i2.1, by rw [ai_aI, up1_ne (by omega), ai_aI, up1_ne (by omega)]; exact i2.2⟩, fun i hi => ?_, fun i hi => ?_, fun i hi => ?_⟩
      · rw [ai_aI, up1_ne (by omega), ai_aI, up1_ne (by omega)]; exact i3 i hi
      · rw [ai_aI, up1_ne (by omega), ai_aI, up1_eq, upA_ap]
        split
        · next e => rw [e, show 26 + 4 * k + 2 = 28 + 4 * k by omega]
        · exact i4 i (by omega)
      · rw [ai_aI, up1_eq, upA_ap]
        split
        · next e => rw [e]
        · rw [ai_aI, up1_ne (by omega)]; exact i5 i (by omega)) (fun m s hi => by
      obtain ⟨i1, i2, i3, i4, i5⟩ := hi
      have h2 : MS s mo := i1.ms h1
      have hR2 : ∀ i, i < 241 → s.ai (mo + 3) i = nI (R i) := i1.ar (by omega) hr1
      refine ⟨s, ?_, i1, i2, i3, i4, i5⟩
      simp (disch := omega) only [sX2_asNow_L17, lit_nI, M_r1011 h2, M_l3 h2, hR2, nI_le', Nat.le_refl, if_true])
  obtain ⟨τ, e, q1, q2, q3, q4⟩ := hl
  exact ⟨τ, by rw [e, bp_s], hq1.tr q1, ⟨fun F a => (q2.1 F a).trans (hf1 F a), q2.2.trans (by rw [← hσ1, ai_aI, up1_ne (by omega)])⟩, q3, q4⟩
