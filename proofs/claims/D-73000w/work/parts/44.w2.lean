/-! TWO RUNS SIDE BY SIDE (W2), loops in the style of what comes next, ranges -/
set_option maxRecDepth 100000
def W2 {α β : Type} (e1 : Option α) (e2 : Option β) (Q : α → β → Prop) : Prop := ∃ a b, e1 = some a ∧ e2 = some b ∧ Q a b
section
variable {α α' β β' γ γ' : Type}
theorem W2_ret {Q : α → β → Prop} {a : α} {b : β} (h : Q a b) : W2 (some a) (some b) Q := ⟨a, b, rfl, rfl, h⟩
theorem W2_mono {e1 : Option α} {e2 : Option β} {P Q : α → β → Prop} (h : W2 e1 e2 P) (hk : ∀ a b, P a b → Q a b) : W2 e1 e2 Q := by
  obtain ⟨a, b, h1, h2, h3⟩ := h
  exact ⟨a, b, h1, h2, hk a b h3⟩
theorem W2_of {e1 : Option α} {e2 : Option β} {P : α → Prop} {R : β → Prop} {Q : α → β → Prop} (h1 : Wp e1 P) (h2 : Wp e2 R) (h : ∀ a b, P a → R b → Q a b) : W2 e1 e2 Q := by
  obtain ⟨a, e, ha⟩ := h1
  obtain ⟨b, f, hb⟩ := h2
  exact ⟨a, b, e, f, h a b ha hb⟩
theorem W2_l {e : Option α'} {k : α' → Option α} {e2 : Option β} {P : α' → Prop} {Q : α → β → Prop} (h : Wp e P) (hk : ∀ a, P a → W2 (k a) e2 Q) : W2 (bp e k) e2 Q := by
  obtain ⟨a, rfl, ha⟩ := h
  exact hk a ha
theorem W2_r {e : Option β'} {k : β' → Option β} {e1 : Option α} {P : β' → Prop} {Q : α → β → Prop} (h : Wp e P) (hk : ∀ b, P b → W2 e1 (k b) Q) : W2 e1 (bp e k) Q := by
  obtain ⟨a, rfl, ha⟩ := h
  exact hk a ha
theorem W2_bp {e1 : Option α'} {k1 : α' → Option α} {e2 : Option β'} {k2 : β' → Option β} {P : α' → β' → Prop} {Q : α → β → Prop} (h : W2 e1 e2 P) (hk : ∀ a b, P a b → W2 (k1 a) (k2 b) Q) : W2 (bp e1 k1) (bp e2 k2) Q := by
  obtain ⟨a, b, rfl, rfl, h3⟩ := h
  exact hk a b h3
theorem W2_b2 {e1 : Option (α' × γ)} {k1 : α' → γ → Option α} {e2 : Option (β' × γ')} {k2 : β' → γ' → Option β} {P : α' × γ → β' × γ' → Prop} {Q : α → β → Prop} (h : W2 e1 e2 P) (hk : ∀ a c b d, P (a, c) (b, d) → W2 (k1 a c) (k2 b d) Q) : W2 (b2 e1 k1) (b2 e2 k2) Q := by
  obtain ⟨⟨a, c⟩, ⟨b, d⟩, rfl, rfl, h3⟩ := h
  exact hk a c b d h3
theorem W2_bd {e1 : Option (St × γ)} {k1 : St → γ → Option α} {e2 : Option (St × γ')} {k2 : St → γ' → Option β} {P : St × γ → St × γ' → Prop} {Q : α → β → Prop} (h : W2 e1 e2 P) (hk : ∀ a c b d, P (a, c) (b, d) → W2 (k1 a c) (k2 b d) Q) : W2 (bd e1 k1) (bd e2 k2) Q := by
  obtain ⟨⟨a, c⟩, ⟨b, d⟩, rfl, rfl, h3⟩ := h
  exact hk a c b d h3
/-- loops that may answer from within: both, or neither -/
theorem W2_lc {e1 : Option (α ⊕ α')} {k1 : α' → Option α} {e2 : Option (β ⊕ β')} {k2 : β' → Option β} {P : α ⊕ α' → β ⊕ β' → Prop} {Q : α → β → Prop} (h : W2 e1 e2 P) (h1 : ∀ a b, P (.inl a) (.inl b) → Q a b) (h2 : ∀ a b, P (.inr a) (.inr b) → W2 (k1 a) (k2 b) Q) (h3 : ∀ a b, ¬ P (.inl a) (.inr b)) (h4 : ∀ a b, ¬ P (.inr a) (.inl b)) : W2 (lc e1 k1) (lc e2 k2) Q := by
  obtain ⟨a, b, rfl, rfl, h⟩ := h
  rcases a with a | a <;> rcases b with b | b
  · exact W2_ret (h1 a b h)
  · exact absurd h (h3 a b)
  · exact absurd h (h4 a b)
  · exact h2 a b h
/-- loops that may answer from within, as they mostly are -/
def LC (P : α → β → Prop) (R : α' → β' → Prop) (a : α ⊕ α') (b : β ⊕ β') : Prop := (∃ c d, a = .inl c ∧ b = .inl d ∧ P c d) ∨ (∃ c d, a = .inr c ∧ b = .inr d ∧ R c d)
theorem LC_l {P : α → β → Prop} {R : α' → β' → Prop} {a : α} {b : β} (h : P a b) : LC P R (.inl a) (.inl b) := Or.inl ⟨a, b, rfl, rfl, h⟩
theorem LC_r {P : α → β → Prop} {R : α' → β' → Prop} {a : α'} {b : β'} (h : R a b) : LC P R (.inr a) (.inr b) := Or.inr ⟨a, b, rfl, rfl, h⟩
theorem W2_lcc {e1 : Option (α ⊕ α')} {k1 : α' → Option α} {e2 : Option (β ⊕ β')} {k2 : β' → Option β} {R : α' → β' → Prop} {Q : α → β → Prop} (h : W2 e1 e2 (LC Q R)) (h2 : ∀ a b, R a b → W2 (k1 a) (k2 b) Q) : W2 (lc e1 k1) (lc e2 k2) Q := by
  obtain ⟨a, b, rfl, rfl, ⟨c, d, rfl, rfl, h⟩ | ⟨c, d, rfl, rfl, h⟩⟩ := h
  · exact W2_ret h
  · exact h2 c d h
theorem W2_lcI {ζ ζ' : Type} {e1 : Option (α ⊕ α')} {k1 : α' → Option (α ⊕ ζ)} {e2 : Option (β ⊕ β')} {k2 : β' → Option (β ⊕ ζ')} {P : α → β → Prop} {R : α' → β' → Prop} {Q : α ⊕ ζ → β ⊕ ζ' → Prop} (h : W2 e1 e2 (LC P R)) (h1 : ∀ a b, P a b → Q (.inl a) (.inl b)) (h2 : ∀ a b, R a b → W2 (k1 a) (k2 b) Q) : W2 (lcI e1 k1) (lcI e2 k2) Q := by
  obtain ⟨a, b, rfl, rfl, ⟨c, d, rfl, rfl, h⟩ | ⟨c, d, rfl, rfl, h⟩⟩ := h
  · exact W2_ret (h1 c d h)
  · exact h2 c d h
theorem W2_b3 {δ δ' : Type} {e1 : Option (α' × γ × δ)} {k1 : α' → γ → δ → Option α} {e2 : Option (β' × γ' × δ')} {k2 : β' → γ' → δ' → Option β} {P : α' × γ × δ → β' × γ' × δ' → Prop} {Q : α → β → Prop} (h : W2 e1 e2 P) (hk : ∀ a c e b d f, P (a, c, e) (b, d, f) → W2 (k1 a c e) (k2 b d f) Q) : W2 (b3 e1 k1) (b3 e2 k2) Q := by
  obtain ⟨⟨a, c, e⟩, ⟨b, d, f⟩, rfl, rfl, h3⟩ := h
  exact hk a c e b d f h3
/-- a counting loop from k0 to K: one round, the next round being known -/
theorem Wp_loop (L : Nat → β → Nat → Option γ) (K : Nat) (I : Nat → β → Prop) {Q : γ → Prop} (hK : K < 99999) (hs : ∀ n k b, k ≤ K → I k b → (k < K → ∀ b', I (k + 1) b' → Wp (L n b' (k + 1)) Q) → Wp (L (n + 1) b k) Q) (k0 : Nat) (hk0 : k0 ≤ K) (b : β) (hb : I k0 b) : Wp (L FU b k0) Q := by
  have h : ∀ d k b n, k + d = K → I k b → d < n → Wp (L n b k) Q := by
    intro d
    induction d with
    | zero =>
      intro k b n hk hb hn
      obtain ⟨n, rfl⟩ : ∃ m, n = m + 1 := ⟨n - 1, by omega⟩
      exact hs n k b (by omega) hb (fun h => by omega)
    | succ d ih =>
      intro k b n hk hb hn
      obtain ⟨n, rfl⟩ : ∃ m, n = m + 1 := ⟨n - 1, by omega⟩
      exact hs n k b (by omega) hb (fun _ b' hb' => ih (k + 1) b' n (by omega) hb' (by omega))
  exact h (K - k0) k0 b FU (by omega) hb (by show _ < 100000; omega)
theorem W2_loop (L1 : Nat → β → Nat → Option γ) (L2 : Nat → β' → Nat → Option γ') (K : Nat) (I : Nat → β → β' → Prop) {Q : γ → γ' → Prop} (hK : K < 99999) (hs : ∀ n m k b c, k ≤ K → I k b c → (k < K → ∀ b' c', I (k + 1) b' c' → W2 (L1 n b' (k + 1)) (L2 m c' (k + 1)) Q) → W2 (L1 (n + 1) b k) (L2 (m + 1) c k) Q) (k0 : Nat) (hk0 : k0 ≤ K) (b : β) (c : β') (hb : I k0 b c) : W2 (L1 FU b k0) (L2 FU c k0) Q := by
  have h : ∀ d k b c n m, k + d = K → I k b c → d < n → d < m → W2 (L1 n b k) (L2 m c k) Q := by
    intro d
    induction d with
    | zero =>
      intro k b c n m hk hb hn hm
      obtain ⟨n, rfl⟩ : ∃ m, n = m + 1 := ⟨n - 1, by omega⟩
      obtain ⟨m, rfl⟩ : ∃ j, m = j + 1 := ⟨m - 1, by omega⟩
      exact hs n m k b c (by omega) hb (fun h => by omega)
    | succ d ih =>
      intro k b c n m hk hb hn hm
      obtain ⟨n, rfl⟩ : ∃ m, n = m + 1 := ⟨n - 1, by omega⟩
      obtain ⟨m, rfl⟩ : ∃ j, m = j + 1 := ⟨m - 1, by omega⟩
      exact hs n m k b c (by omega) hb (fun _ b' c' hb' => ih (k + 1) b' c' n m (by omega) hb' (by omega) (by omega))
  exact h (K - k0) k0 b c FU FU (by omega) hb (by show _ < 100000; omega) (by show _ < 100000; omega)
end
theorem iteP {α : Type} {c d : Prop} [Decidable c] [Decidable d] (h : c = d) (a b : α) : (if c then a else b) = if d then a else b := by
  by_cases hd : d
  · rw [if_pos hd, if_pos (by rw [h]; exact hd)]
  · rw [if_neg hd, if_neg (by rw [h]; exact hd)]
theorem fi_ne {σ : St} {F G a b : Nat} {v : Int32} (h : G ≠ F) : (σ.sI F a v).fi G b = σ.fi G b := if_neg (fun q => h q.1)
theorem fi_eq {σ : St} {F a : Nat} {v : Int32} : (σ.sI F a v).fi F a = v := if_pos ⟨rfl, rfl⟩
/-- a number within 0 .. n - 1 -/
def isB (v : Int32) (n : Nat) : Bool := decide (0 ≤ v) && decide (v < nI n)
theorem isB_t {v : Int32} {n : Nat} (hn : n < 2147483648) (h : isB v n = true) : ∃ k, k < n ∧ v = nI k := by
  simp only [isB, Bool.and_eq_true, decide_eq_true_eq] at h
  obtain ⟨h1, h2⟩ := h
  obtain ⟨j, hj, rfl⟩ := nI_of (x := v) (fun q => absurd h1 (by rw [Int32.not_le]; exact q))
  exact ⟨j, (nI_ltI hj (by omega)).mp h2, rfl⟩
theorem isB_nI {k n : Nat} (hk : k < n) (hn : n < 2147483648) : isB (nI k) n = true := by
  simp only [isB, Bool.and_eq_true, decide_eq_true_eq]
  exact ⟨nI_pos' (by omega), nI_lt hk (by omega)⟩
theorem X_in (s : St) (v a b : Int32) : sX1_in s v a b = some (nI (b1 (decide (a ≤ v) && decide (v ≤ b)))) := by
  unfold sX1_in
  by_cases h1 : v < a
  · have : ¬ a ≤ v := by rw [Int32.not_le]; exact h1
    simp [h1, this, b1]; rfl
  · have e1 : a ≤ v := by rw [← Int32.not_lt]; exact h1
    by_cases h2 : b < v
    · have : ¬ v ≤ b := by rw [Int32.not_le]; exact h2
      simp [h1, h2, this, b1]; rfl
    · have e2 : v ≤ b := by rw [← Int32.not_lt]; exact h2
      simp [h1, h2, e1, e2, b1]; rfl
theorem M_in (s : St) (v a b : Int32) : sX2_in s v a b = some (nI (b1 (decide (a ≤ v) && decide (v ≤ b)))) := X_in s v a b
theorem le_pred {v : Int32} {n : Nat} (h0 : 0 ≤ v) (hn : n < 2147483648) : (v ≤ nI n - 1) = (v < nI n) := by
  obtain ⟨j, hj, rfl⟩ := nI_of (x := v) (fun q => absurd h0 (by rw [Int32.not_le]; exact q))
  have e : nI n - 1 = zI ((n : Int) - 1) := by rw [nI_z]; exact zI_sub n 1
  rw [e, nI_z, nI_z, zI_le (by omega) (by omega) (by omega) (by omega), zI_lt (by omega) (by omega) (by omega) (by omega)]
  exact propext ⟨fun h => by omega, fun h => by omega⟩
theorem in_pred {v : Int32} {n : Nat} (hn : n < 2147483648) : (decide ((0 : Int32) ≤ v) && decide (v ≤ nI n - 1)) = isB v n := by
  unfold isB
  by_cases h : (0 : Int32) ≤ v
  · simp only [le_pred h hn]
  · simp [h]
theorem in_le {v : Int32} {n : Nat} (hn : n < 2147483647) : (decide ((0 : Int32) ≤ v) && decide (v ≤ nI n)) = isB v (n + 1) := by
  unfold isB
  by_cases h : (0 : Int32) ≤ v
  · obtain ⟨j, hj, rfl⟩ := nI_of (x := v) (fun q => absurd h (by rw [Int32.not_le]; exact q))
    have : (nI j ≤ nI n) = (nI j < nI (n + 1)) := by
      rw [nI_le' (by omega) (by omega), nI_lt' (by omega) (by omega)]
      exact propext ⟨fun h => by omega, fun h => by omega⟩
    simp only [this]
  · simp [h]
theorem b1_1 (b : Bool) : (nI (b1 b) = nI 1) = (b = true) := by cases b <;> simp [b1, nI_eq']
theorem b1_z (b : Bool) : (nI (b1 b) = 0) = (b = false) := b1_0 b
theorem nI0 : (0 : Int32) = nI 0 := rfl
theorem nI1 : (1 : Int32) = nI 1 := rfl
/-- what is told and 1, or none: the number, or -2 -/
def oI (n : Nat) : Int32 := if n = 0 then zI (-2) else nI (n - 1)
theorem oI_0 : oI 0 = zI (-2) := rfl
theorem oI_s (n : Nat) : oI (n + 1) = nI n := rfl
theorem oI_p {n : Nat} (h : 0 < n) : oI n = nI (n - 1) := if_neg (by omega)
theorem m2 : (-2 : Int32) = zI (-2) := rfl
theorem m1 : (-1 : Int32) = zI (-1) := rfl
theorem nI_ne_z {n : Nat} {z : Int} (hn : n < 2147483648) (hz : z < 0) (h2 : -2147483648 ≤ z) : (nI n = zI z) = False := by
  rw [nI_z, zI_eq (by omega) (by omega) h2 (by omega)]
  exact eq_false (by omega)
theorem oI_m2 {n : Nat} (h : n < 2147483648) : (oI n = zI (-2)) = (n = 0) := by
  unfold oI
  by_cases h0 : n = 0
  · simp [h0]
  · rw [if_neg h0, nI_ne_z (by omega) (by omega) (by omega)]
    simp [h0]
theorem oI_inj {a b : Nat} (ha : a < 2147483648) (hb : b < 2147483648) : (oI a = oI b) = (a = b) := by
  unfold oI
  by_cases h0 : a = 0 <;> by_cases h1 : b = 0
  · simp [h0, h1]
  · have e : (zI (-2) = nI (b - 1)) = (nI (b - 1) = zI (-2)) := propext eq_comm
    rw [if_pos h0, if_neg h1, e, nI_ne_z (by omega) (by omega) (by omega)]
    simp [h0]; omega
  · rw [if_neg h0, if_pos h1, nI_ne_z (by omega) (by omega) (by omega)]
    simp [h1, h0]
  · rw [if_neg h0, if_neg h1, nI_eq' (by omega) (by omega)]
    exact propext ⟨fun h => by omega, fun h => by omega⟩
/-- itN as a fold; ors -/
theorem itN_fold {β : Type} (f : Nat → β → β) : ∀ d k b, itN f d k b = (List.range' k d).foldl (fun b j => f j b) b := by
  intro d
  induction d with
  | zero => intro k b; rfl
  | succ d ih => intro k b; show itN f d (k + 1) (f k b) = _; rw [ih]; rfl
theorem itN_bit (g : Nat → Nat) (i : Nat) : ∀ d k b, (itN (fun k s => s ||| g k) d k b).testBit i = (b.testBit i || (List.range' k d).any fun j => (g j).testBit i) := by
  intro d
  induction d with
  | zero => intro k b; simp [itN]
  | succ d ih =>
    intro k b
    show (itN (fun k s => s ||| g k) d (k + 1) (b ||| g k)).testBit i = _
    rw [ih, Nat.testBit_or, List.range'_succ, List.any_cons, Bool.or_assoc]
theorem itN_congr {β : Type} {f g : Nat → β → β} (d k : Nat) (b : β) (h : ∀ j b, k ≤ j → j < k + d → f j b = g j b) : itN f d k b = itN g d k b := by
  induction d generalizing k b with
  | zero => rfl
  | succ d ih =>
    show itN f d (k + 1) (f k b) = itN g d (k + 1) (g k b)
    rw [h k b (by omega) (by omega)]
    exact ih (k + 1) (g k b) (fun j b h1 h2 => h j b (by omega) (by omega))
