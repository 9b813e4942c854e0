/-! small words that the generated walks are made of -/
theorem im {A P Q : Prop} (f : P → Q) (k : A → P) : A → Q := fun a => f (k a)
theorem flp {A B C : Prop} (f : A → B → C) (k : B) : A → C := fun a => f a k
theorem flp2 {A B1 B2 C : Prop} (f : A → B1 → B2 → C) (k1 : B1) (k2 : B2) : A → C := fun a => f a k1 k2
section
variable {α β γ δ ε ζ η θ : Type}
def b2 (x : Option (α × β)) (k : α → β → Option ζ) : Option ζ := match x with
  | none => none
  | some q => k q.1 q.2
def b3 (x : Option (α × β × γ)) (k : α → β → γ → Option ζ) : Option ζ := match x with
  | none => none
  | some q => k q.1 q.2.1 q.2.2
def b4 (x : Option (α × β × γ × δ)) (k : α → β → γ → δ → Option ζ) : Option ζ := match x with
  | none => none
  | some q => k q.1 q.2.1 q.2.2.1 q.2.2.2
def b5 (x : Option (α × β × γ × δ × ε)) (k : α → β → γ → δ → ε → Option ζ) : Option ζ := match x with
  | none => none
  | some q => k q.1 q.2.1 q.2.2.1 q.2.2.2.1 q.2.2.2.2
def b6 (x : Option (α × β × γ × δ × ε × η)) (k : α → β → γ → δ → ε → η → Option ζ) : Option ζ := match x with
  | none => none
  | some q => k q.1 q.2.1 q.2.2.1 q.2.2.2.1 q.2.2.2.2.1 q.2.2.2.2.2
def b7 (x : Option (α × β × γ × δ × ε × η × θ)) (k : α → β → γ → δ → ε → η → θ → Option ζ) : Option ζ := match x with
  | none => none
  | some q => k q.1 q.2.1 q.2.2.1 q.2.2.2.1 q.2.2.2.2.1 q.2.2.2.2.2.1 q.2.2.2.2.2.2
/-- behind a loop that may return from within -/
def lc (x : Option (ζ ⊕ α)) (k : α → Option ζ) : Option ζ := match x with
  | none => none
  | some (.inl r) => some r
  | some (.inr v) => k v
/-- the same inside another loop -/
def lcI (x : Option (ζ ⊕ α)) (k : α → Option (ζ ⊕ β)) : Option (ζ ⊕ β) := match x with
  | none => none
  | some (.inl r) => some (.inl r)
  | some (.inr v) => k v
variable {z : ζ} {P : Prop}
theorem bpg {x : Option α} {K : α → Option ζ} (k : ∀ a, x = some a → K a = some z → P) : bp x K = some z → P := by
  intro h
  cases x with
  | none => cases h
  | some q => exact k q rfl h
theorem b2g {x : Option (α × β)} {K : α → β → Option ζ} (k : ∀ a b, x = some (a, b) → K a b = some z → P) : b2 x K = some z → P := by
  intro h
  cases x with
  | none => cases h
  | some q => exact k _ _ rfl h
theorem bdg {x : Option (St × β)} {K : St → β → Option ζ} (k : ∀ a b, x = some (a, b) → K a b = some z → P) : bd x K = some z → P := by
  intro h
  cases x with
  | none => cases h
  | some q => exact k _ _ rfl h
theorem b3g {x : Option (α × β × γ)} {K : α → β → γ → Option ζ} (k : ∀ a b c, x = some (a, b, c) → K a b c = some z → P) : b3 x K = some z → P := by
  intro h
  cases x with
  | none => cases h
  | some q => exact k _ _ _ rfl h
theorem b4g {x : Option (α × β × γ × δ)} {K : α → β → γ → δ → Option ζ} (k : ∀ a b c d, x = some (a, b, c, d) → K a b c d = some z → P) : b4 x K = some z → P := by
  intro h
  cases x with
  | none => cases h
  | some q => exact k _ _ _ _ rfl h
theorem b5g {x : Option (α × β × γ × δ × ε)} {K : α → β → γ → δ → ε → Option ζ} (k : ∀ a b c d e, x = some (a, b, c, d, e) → K a b c d e = some z → P) : b5 x K = some z → P := by
  intro h
  cases x with
  | none => cases h
  | some q => exact k _ _ _ _ _ rfl h
theorem b6g {x : Option (α × β × γ × δ × ε × η)} {K : α → β → γ → δ → ε → η → Option ζ} (k : ∀ a b c d e f, x = some (a, b, c, d, e, f) → K a b c d e f = some z → P) : b6 x K = some z → P := by
  intro h
  cases x with
  | none => cases h
  | some q => exact k _ _ _ _ _ _ rfl h
theorem b7g {x : Option (α × β × γ × δ × ε × η × θ)} {K : α → β → γ → δ → ε → η → θ → Option ζ} (k : ∀ a b c d e f g, x = some (a, b, c, d, e, f, g) → K a b c d e f g = some z → P) : b7 x K = some z → P := by
  intro h
  cases x with
  | none => cases h
  | some q => exact k _ _ _ _ _ _ _ rfl h
theorem e1 {a a' : α} {P : Prop} (k : a' = a → P) : some a = some a' → P := fun h => k (by cases h; rfl)
theorem e2 {a a' : α} {b b' : β} {P : Prop} (k : a' = a → b' = b → P) : some (a, b) = some (a', b') → P := fun h => k (by cases h; rfl) (by cases h; rfl)
theorem e3 {a a' : α} {b b' : β} {c c' : γ} {P : Prop} (k : a' = a → b' = b → c' = c → P) : some (a, b, c) = some (a', b', c') → P := fun h => k (by cases h; rfl) (by cases h; rfl) (by cases h; rfl)
theorem e4 {a a' : α} {b b' : β} {c c' : γ} {d d' : δ} {P : Prop} (k : a' = a → b' = b → c' = c → d' = d → P) : some (a, b, c, d) = some (a', b', c', d') → P := fun h => k (by cases h; rfl) (by cases h; rfl) (by cases h; rfl) (by cases h; rfl)
theorem e5 {a a' : α} {b b' : β} {c c' : γ} {d d' : δ} {e e' : ε} {P : Prop} (k : a' = a → b' = b → c' = c → d' = d → e' = e → P) : some (a, b, c, d, e) = some (a', b', c', d', e') → P := fun h => k (by cases h; rfl) (by cases h; rfl) (by cases h; rfl) (by cases h; rfl) (by cases h; rfl)
theorem e6 {a a' : α} {b b' : β} {c c' : γ} {d d' : δ} {e e' : ε} {f f' : η} {P : Prop} (k : a' = a → b' = b → c' = c → d' = d → e' = e → f' = f → P) : some (a, b, c, d, e, f) = some (a', b', c', d', e', f') → P := fun h => k (by cases h; rfl) (by cases h; rfl) (by cases h; rfl) (by cases h; rfl) (by cases h; rfl) (by cases h; rfl)
theorem e7 {a a' : α} {b b' : β} {c c' : γ} {d d' : δ} {e e' : ε} {f f' : η} {g g' : θ} {P : Prop} (k : a' = a → b' = b → c' = c → d' = d → e' = e → f' = f → g' = g → P) : some (a, b, c, d, e, f, g) = some (a', b', c', d', e', f', g') → P := fun h => k (by cases h; rfl) (by cases h; rfl) (by cases h; rfl) (by cases h; rfl) (by cases h; rfl) (by cases h; rfl) (by cases h; rfl)
theorem lcg {x : Option (ζ ⊕ α)} {K : α → Option ζ} (k : ∀ o, x = some o → ((∀ r, o = .inl r → r = z) ∧ (∀ v, o = .inr v → K v = some z)) → P) : lc x K = some z → P := by
  intro h
  cases x with
  | none => cases h
  | some q =>
    refine k q rfl ⟨fun r hr => ?_, fun v hv => ?_⟩
    · subst hr; exact Option.some.inj h
    · subst hv; exact h
theorem lcIg {x : Option (ζ ⊕ α)} {K : α → Option (ζ ⊕ β)} {o2 : ζ ⊕ β} (k : ∀ o, x = some o → ((∀ r, o = .inl r → o2 = .inl r) ∧ (∀ v, o = .inr v → K v = some o2)) → P) : lcI x K = some o2 → P := by
  intro h
  cases x with
  | none => cases h
  | some q =>
    refine k q rfl ⟨fun r hr => ?_, fun v hv => ?_⟩
    · subst hr; exact (Option.some.inj h).symm
    · subst hv; exact h
theorem eor {x : α} {o : α} {P : Prop} (k : o = x → P) : some x = some o → P := fun h => k (Option.some.inj h).symm
theorem okg {b : Bool} {x : Option ζ} (k : b = true → x = some z → P) : ok b x = some z → P := fun h => k (ok_el h).1 (ok_el h).2
theorem nog {α : Type} {z : α} {P : Prop} : (none : Option α) = some z → P := fun h => by cases h
/-- a check of a kind -/
def kd {ζ : Type} (σ : St) (a c : Nat) (k : Option ζ) : Option ζ := if σ.ob a = c then k else none
theorem kdg {σ : St} {a c : Nat} {x : Option ζ} (k : σ.ob a = c → x = some z → P) : kd σ a c x = some z → P := by
  intro h
  unfold kd at h
  by_cases hc : σ.ob a = c
  · rw [if_pos hc] at h; exact k hc h
  · rw [if_neg hc] at h; cases h
theorem ivg {σ : St} {c : Nat} {r : Option Nat} {K : Nat → Option ζ} (k : ∀ a, r = some a → σ.ob a = c → K a = some z → P) : iv σ c r K = some z → P := by
  intro h
  obtain ⟨a, e, h1, h2⟩ := iv_el h
  exact k a e h1 h2
theorem ifg {c : Prop} [Decidable c] {A B : Option ζ} (k1 : c → A = some z → P) (k2 : ¬ c → B = some z → P) : (if c then A else B) = some z → P := by
  intro h
  by_cases hc : c
  · rw [if_pos hc] at h; exact k1 hc h
  · rw [if_neg hc] at h; exact k2 hc h
end
/-- enough rounds for any loop here -/
def FU : Nat := 100000
